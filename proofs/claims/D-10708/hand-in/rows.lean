section
/-- a place of the board -/
abbrev hs_pl (p : Int32) : Prop := ¬ p < 0 ∧ ¬ 4095 < p
/-- an engine's number -/
abbrev hs_en (e : Int32) : Prop := ¬ e < 0 ∧ ¬ 5 < e
/-- a direction that is taken -/
abbrev hs_wy (dx dy : Int32) : Prop := ¬ dx < (-64) ∧ ¬ 64 < dx ∧ ¬ dy < (-64) ∧ ¬ 64 < dy
/-- the object after add(x): one point at place x, or none -/
def hs_M (x p : Int32) (a1 : Nat → Int32) : Prop := (hs_pl x → p = 1 ∧ a1 0 = x) ∧ (¬ hs_pl x → p = 0)
/-- what solve leaves: one corner, number 0, at x's place; or none -/
def hs_D (x s : Int32) (a2 a3 a4 : Nat → Int32) : Prop := (∀ n : Nat, n < 4096 → x = nI n → s = 1 ∧ a4 0 = 0 ∧ a2 0 = nI (n % 64) ∧ a3 0 = nI (n / 64)) ∧ (¬ hs_pl x → s = 0)
theorem hs_of {p : Int32} (h : hs_pl p) : ∃ n : Nat, n < 4096 ∧ p = nI n := by
  obtain ⟨j, hj, e⟩ := nI_of h.1
  refine ⟨j, ?_, e⟩
  rcases Nat.lt_or_ge j 4096 with z | z
  · exact z
  · exact absurd (show (4095 : Int32) < p from by rw [e]; exact nI_lt (a := 4095) (by omega) hj) h.2
theorem hs_4096 {p : Int32} : 4096 ≤ p ↔ 4095 < p := by
  rw [Int32.le_iff_toInt_le, Int32.lt_iff_toInt_lt, show (4096 : Int32).toInt = 4096 from by decide, show (4095 : Int32).toInt = 4095 from by decide]
  omega
theorem hs_6 {p : Int32} : 6 ≤ p ↔ 5 < p := by
  rw [Int32.le_iff_toInt_le, Int32.lt_iff_toInt_lt, show (6 : Int32).toInt = 6 from by decide, show (5 : Int32).toInt = 5 from by decide]
  omega
theorem hs_64 {p : Int32} : p ≤ 64 ↔ ¬ 64 < p := by
  rw [Int32.le_iff_toInt_le, Int32.lt_iff_toInt_lt]
  omega
theorem hs_bit1 : ∀ i, i < 24 → 1 ≤ i → ((1 : Int32) >>> (nI i &&& 31)) &&& 1 = 0 := by decide +kernel
theorem hs_bit0 : ∀ i, i < 24 → ((0 : Int32) >>> (nI i &&& 31)) &&& 1 = 0 := by decide +kernel
theorem hs_b8 : ∀ n, n < 64 → (nI n).toInt8.toInt32 = nI n := by decide +kernel
theorem hs_s16 {n : Nat} (h : n < 4096) : (nI n).toInt16.toInt32 = nI n := by
  apply Int32.toInt_inj.mp
  rw [Int16.toInt_toInt32, Int32.toInt_toInt16, nI_toInt (by omega)]
  exact Int.bmod_eq_of_le (by omega) (by omega)
theorem hs_key {n : Nat} (h : n < 4096) : ((nI n - nI n / 64 * 64) * 64) + (nI n / 64) = nI (n % 64 * 64 + n / 64) := by
  rw [show (64 : Int32) = nI 64 from rfl, pk_rem (by omega) (by omega) (by omega), pk_div (by omega) (by omega) (by omega), pk_mul, nI_add]
theorem hs_kx {n : Nat} (h : n < 4096) : (nI (n % 64 * 64 + n / 64) / 64).toInt8.toInt32 = nI (n % 64) := by
  rw [show (64 : Int32) = nI 64 from rfl, pk_div (by omega) (by omega) (by omega), show (n % 64 * 64 + n / 64) / 64 = n % 64 by omega, hs_b8 _ (by omega)]
theorem hs_ky {n : Nat} (h : n < 4096) : (nI (n % 64 * 64 + n / 64) - nI (n % 64 * 64 + n / 64) / 64 * 64).toInt8.toInt32 = nI (n / 64) := by
  rw [show (64 : Int32) = nI 64 from rfl, pk_rem (by omega) (by omega) (by omega), show (n % 64 * 64 + n / 64) % 64 = n / 64 by omega, hs_b8 _ (by omega)]
theorem hs_rem {n : Nat} (h : n < 4096) : nI n - nI n / 64 * 64 = nI (n % 64) := by
  rw [show (64 : Int32) = nI 64 from rfl, pk_rem (by omega) (by omega) (by omega)]
theorem hs_div {n : Nat} (h : n < 4096) : nI n / 64 = nI (n / 64) := by
  rw [show (64 : Int32) = nI 64 from rfl, pk_div (by omega) (by omega) (by omega)]
theorem hs_back {n : Nat} : nI (n % 64) + 64 * nI (n / 64) = nI n := by
  rw [show (64 : Int32) = nI 64 from rfl, pk_mul, nI_add, show n % 64 + 64 * (n / 64) = n by omega]
theorem hs_and {n : Nat} (h : n < 4096) : nI n &&& 63 = nI (n % 64) := pk_andN (by omega) 6 (by decide)
theorem hs_shr {n : Nat} (h : n < 4096) : nI n >>> ((6 : Int32) &&& 31) = nI (n / 64) := pk_shrN (by omega) _ 6 (by decide)
theorem hs_sq {a b : Nat} (ha : a < 64) (hb : b < 64) : ∃ m : Nat, m ≤ 3969 ∧ (nI a - nI b) * (nI a - nI b) = nI m ∧ (m = 0 ↔ a = b) := by
  rcases Nat.lt_or_ge b a with z | z
  · refine ⟨(a - b) * (a - b), Nat.mul_le_mul (show a - b ≤ 63 by omega) (show a - b ≤ 63 by omega), ?_, ?_⟩
    · rw [pk_sub (by omega), pk_mul]
    · rw [Nat.mul_eq_zero]
      omega
  · refine ⟨(b - a) * (b - a), Nat.mul_le_mul (show b - a ≤ 63 by omega) (show b - a ≤ 63 by omega), ?_, ?_⟩
    · rw [show (nI a - nI b) * (nI a - nI b) = (nI b - nI a) * (nI b - nI a) by grind, pk_sub (by omega), pk_mul]
    · rw [Nat.mul_eq_zero]
      omega
theorem hs_dist {a b c d : Nat} (ha : a < 64) (hb : b < 64) (hc : c < 64) (hd : d < 64) : 0 < (nI a - nI b) * (nI a - nI b) + (nI c - nI d) * (nI c - nI d) ↔ ¬ (a = b ∧ c = d) := by
  obtain ⟨m, hm, e, i⟩ := hs_sq ha hb
  obtain ⟨l, hl, e', i'⟩ := hs_sq hc hd
  rw [e, e', nI_add, ← nI_0, nI_ltI (by omega) (by omega), ← i, ← i']
  omega
end
section
section
variable {post : St2 → Prop} {p c s k w : Int32} {a1 a2 a3 a4 a5 a6 a7 a8 a9 a10 a11 a12 a13 : Nat → Int32}
/-- gather: from place i on no point is set any more -/
theorem hs_g7 {set : Int32} (i0 : Nat) (hz : ∀ i, i0 ≤ i → i < 24 → (set >>> (nI i &&& 31)) &&& 1 = 0) (hp : post (p, c, s, k, w, a1, a2, a3, a4, a5, a6, a7, a8, a9, a10, a11, a12, a13)) :
    ∀ m i, i0 ≤ i → i + m = 24 → wX_gather_7 post set (m + 1) (nI i) p c s k w a1 a2 a3 a4 a5 a6 a7 a8 a9 a10 a11 a12 a13 := by
  intro m
  induction m with
  | zero =>
    intro i hi h
    exact pk_le 24 i (fun _ => hp) (fun z => absurd z (by omega))
  | succ m ih =>
    intro i hi h
    exact pk_le 24 i (fun z => absurd z (by omega)) (fun z => br_t (hz i hi z) (nm_r (nI_1 i) (ih (i + 1) (by omega) (by omega))))
theorem hs_enter (own : Int32) (hp : post (p, 1, s, k, w, a1, upd a2 0 ((own / 64).toInt8.toInt32), upd a3 0 ((own - own / 64 * 64).toInt8.toInt32), a4, a5, a6, a7, a8, a9, a10, a11, a12, a13)) :
    wpX_enter post (p, 0, s, k, w, a1, a2, a3, a4, a5, a6, a7, a8, a9, a10, a11, a12, a13) own := by
  unfold wpX_enter
  refine ⟨1, br_t (by decide) ?_⟩
  unfold wX_enter_39
  refine br_t (by decide) ⟨1, br_t (by decide) ⟨by decide, pk_in 0 24 (by omega), nm_r (by rw [sb_cl0]) ⟨by decide, pk_in 0 24 (by omega), nm_r (by rw [sb_cl0]) (nm_r (show (0 : Int32) + 1 = 1 by decide) hp)⟩⟩⟩
theorem hs_gather0 (hp : post (p, 0, s, k, w, a1, a2, a3, a4, a5, a6, a7, a8, a9, a10, a11, a12, a13)) :
    wpX_gather post (p, c, s, k, w, a1, a2, a3, a4, a5, a6, a7, a8, a9, a10, a11, a12, a13) 0 := by
  unfold wpX_gather
  exact ⟨25, hs_g7 0 (fun i _ h => hs_bit0 i h) hp 24 0 (by omega) (by omega)⟩
theorem hs_gather1 {n : Nat} (hn : n < 4096) (h1 : a1 0 = nI n) (hp : post (p, 1, s, k, w, a1, upd a2 0 (nI (n % 64)), upd a3 0 (nI (n / 64)), a4, a5, a6, a7, a8, a9, a10, a11, a12, a13)) :
    wpX_gather post (p, c, s, k, w, a1, a2, a3, a4, a5, a6, a7, a8, a9, a10, a11, a12, a13) 1 := by
  unfold wpX_gather
  refine ⟨25, br_f (by decide) (br_f (by decide) ⟨pk_in 0 24 (by omega), ?_⟩)⟩
  refine ⟨by decide, by decide, ?_⟩
  rw [sb_cl0, h1, hs_key hn]
  refine hs_enter _ ?_
  rw [hs_kx hn, hs_ky hn]
  exact nm_r (show (0 : Int32) + 1 = nI 1 by decide) (hs_g7 1 (fun i h h' => hs_bit1 i h' h) hp 23 1 (by omega) (by omega))
theorem hs_solve {x e : Int32} (h : hs_M x p a1) (H : ∀ (c s : Int32) (a2 a3 a4 : Nat → Int32), hs_D x s a2 a3 a4 → post (p, c, s, k, w, a1, a2, a3, a4, a5, a6, a7, a8, a9, a10, a11, a12, a13)) :
    wpX_solve post (p, c, s, k, w, a1, a2, a3, a4, a5, a6, a7, a8, a9, a10, a11, a12, a13) e p := by
  unfold wpX_solve
  by_cases hx : hs_pl x
  · obtain ⟨hp, h1⟩ := h.1 hx
    subst hp
    obtain ⟨n, hn, en⟩ := hs_of hx
    refine hs_gather1 hn (h1.trans en) (br_f (by decide) (nm_e (H _ _ _ _ _ ⟨fun m hm em => ?_, fun z => absurd hx z⟩)))
    have enm : n = m := (nI_eq (by omega) (by omega)).mp (en.symm.trans em)
    subst enm
    exact ⟨rfl, pk_us, pk_us, pk_us⟩
  · have hp := h.2 hx
    subst hp
    refine hs_gather0 (br_f (by decide) (nm_e (H _ _ _ _ _ ⟨fun m hm em => absurd ?_ hx, fun _ => rfl⟩)))
    rw [em]
    exact ⟨nI_pos (by omega), nI_nlt (a := 4095) (by omega) (by omega)⟩
end
end
section
section
variable {p c s k w : Int32} {a1 a2 a3 a4 a5 a6 a7 a8 a9 a10 a11 a12 a13 : Nat → Int32}
theorem hs_isPlace {post : Int32 → Prop} {q : Int32} (h1 : hs_pl q → post 1) (h0 : ¬ hs_pl q → post 0) : wpX_isPlace post () q :=
  br_c (fun z => h0 (fun t => t.1 z)) (fun z => br_c (fun y => h0 (fun t => t.2 (hs_4096.mp y))) (fun y => h1 ⟨z, fun t => y (hs_4096.mpr t)⟩))
theorem hs_isEngine {post : Int32 → Prop} {q : Int32} (h1 : hs_en q → post 1) (h0 : ¬ hs_en q → post 0) : wpX_isEngine post () q :=
  br_c (fun z => h0 (fun t => t.1 z)) (fun z => br_c (fun y => h0 (fun t => t.2 (hs_6.mp y))) (fun y => h1 ⟨z, fun t => y (hs_6.mpr t)⟩))
theorem hs_add {post : Int32 → St2 → Prop} {x : Int32} (H : ∀ (p : Int32) (a1 : Nat → Int32), hs_M x p a1 → post (if hs_pl x then 0 else -10000) (p, c, s, k, w, a1, a2, a3, a4, a5, a6, a7, a8, a9, a10, a11, a12, a13)) :
    wpX_add post (0, c, s, k, w, a1, a2, a3, a4, a5, a6, a7, a8, a9, a10, a11, a12, a13) x := by
  unfold wpX_add
  refine hs_isPlace (fun hx => br_f (by decide) ⟨1, br_f (by decide) ?_⟩) (fun hx => br_t rfl ?_)
  · refine br_f (by decide) (br_f (by decide) (br_t (by decide) (br_t rfl ?_)))
    obtain ⟨n, hn, en⟩ := hs_of hx
    have hh := H 1 (upd a1 0 x) ⟨fun _ => ⟨rfl, pk_us⟩, fun z => absurd hx z⟩
    rw [if_pos hx] at hh
    exact nm_r (show (0 : Int32) ||| ((1 : Int32) <<< ((0 : Int32) &&& 31)) = 1 by decide) ⟨pk_in 0 24 (by omega), nm_r (show upd a1 (0 : Int32).toNatClampNeg x.toInt16.toInt32 = upd a1 0 x by rw [sb_cl0, en, hs_s16 hn]) hh⟩
  · have hh := H 0 a1 ⟨fun z => absurd z hx, fun _ => rfl⟩
    rw [if_neg hx] at hh
    exact hh
theorem hs_placeAt {post : Int32 → Prop} {n : Nat} (h4 : a4 0 = 0) (h2 : a2 0 = nI (n % 64)) (h3 : a3 0 = nI (n / 64)) (H : post (nI n)) :
    wpX_placeAt post (p, c, s, k, w, a1, a2, a3, a4, a5, a6, a7, a8, a9, a10, a11, a12, a13) 0 := by
  unfold wpX_placeAt
  dsimp only
  rw [sb_cl0, h4, sb_cl0, h2, h3, hs_back]
  exact ⟨pk_in 0 48 (by omega), pk_in 0 24 (by omega), pk_in 0 48 (by omega), pk_in 0 24 (by omega), H⟩
theorem hs_corner {post : Int32 → St2 → Prop} {x e : Int32} (h : hs_M x p a1) (H : ∀ (c s : Int32) (a2 a3 a4 : Nat → Int32), post (if hs_en e ∧ hs_pl x then x else -10000) (p, c, s, k, w, a1, a2, a3, a4, a5, a6, a7, a8, a9, a10, a11, a12, a13)) :
    wpX_corner post (p, c, s, k, w, a1, a2, a3, a4, a5, a6, a7, a8, a9, a10, a11, a12, a13) e 0 := by
  unfold wpX_corner
  refine hs_isEngine (fun he => br_f (by decide) (hs_solve h (fun c s a2 a3 a4 hD => br_f (by decide) ?_))) (fun he => br_t rfl ?_)
  · by_cases hx : hs_pl x
    · obtain ⟨n, hn, en⟩ := hs_of hx
      obtain ⟨rfl, h4, h2, h3⟩ := hD.1 n hn en
      have hh := H c 1 a2 a3 a4
      rw [if_pos ⟨he, hx⟩, en] at hh
      exact br_f (by decide) (hs_placeAt h4 h2 h3 hh)
    · have hs := hD.2 hx
      subst hs
      have hh := H c 0 a2 a3 a4
      rw [if_neg (fun t => hx t.2)] at hh
      exact br_t (by decide) hh
  · have hh := H c s a2 a3 a4
    rw [if_neg (fun t => he t.1)] at hh
    exact hh
theorem hs_size {x : Int32} (hD : hs_D x s a2 a3 a4) : s = 0 ∨ s = 1 := by
  by_cases hx : hs_pl x
  · obtain ⟨n, hn, en⟩ := hs_of hx
    exact Or.inr (hD.1 n hn en).1
  · exact Or.inl (hD.2 hx)
theorem hs_area {post : Int32 → St2 → Prop} {x e : Int32} (h : hs_M x p a1) (H : ∀ (c s : Int32) (a2 a3 a4 : Nat → Int32), post (if hs_en e then 0 else -10000) (p, c, s, k, w, a1, a2, a3, a4, a5, a6, a7, a8, a9, a10, a11, a12, a13)) :
    wpX_area post (p, c, s, k, w, a1, a2, a3, a4, a5, a6, a7, a8, a9, a10, a11, a12, a13) e := by
  unfold wpX_area
  refine hs_isEngine (fun he => br_f (by decide) (hs_solve h (fun c s a2 a3 a4 hD => ?_))) (fun he => br_t rfl ?_)
  · have hh := H c s a2 a3 a4
    rw [if_pos he] at hh
    refine ⟨1, br_t ?_ hh⟩
    rcases hs_size hD with z | z
    · rw [z]
      decide
    · rw [z]
      decide
  · have hh := H c s a2 a3 a4
    rw [if_neg he] at hh
    exact hh
theorem hs_turnTo {post : Int32 → Prop} {px py : Int32} (h4 : a4 0 = 0) (H : post 0) :
    wpX_turnTo post (p, c, s, k, w, a1, a2, a3, a4, a5, a6, a7, a8, a9, a10, a11, a12, a13) 0 0 px py := by
  unfold wpX_turnTo
  refine ⟨pk_in 0 48 (by omega), nm_r (show a4 (0 : Int32).toNatClampNeg = 0 by rw [sb_cl0, h4]) ⟨pk_in 0 48 (by omega), nm_r (show a4 (0 : Int32).toNatClampNeg = 0 by rw [sb_cl0, h4]) ⟨pk_in 0 24 (by omega), pk_in 0 24 (by omega), pk_in 0 24 (by omega), nm_e ⟨pk_in 0 24 (by omega), pk_in 0 24 (by omega), pk_in 0 24 (by omega), ?_⟩⟩⟩⟩
  rw [Int32.sub_self, Int32.sub_self, Int32.zero_mul, Int32.zero_mul, Int32.sub_self]
  exact H
theorem hs_isBetween {post : Int32 → Prop} {px py : Int32} (h4 : a4 0 = 0) (H0 : 0 < (px - a2 0) * (px - a2 0) + (py - a3 0) * (py - a3 0) → post 0) (H1 : ¬ 0 < (px - a2 0) * (px - a2 0) + (py - a3 0) * (py - a3 0) → post 1) :
    wpX_isBetween post (p, c, s, k, w, a1, a2, a3, a4, a5, a6, a7, a8, a9, a10, a11, a12, a13) 0 0 px py := by
  unfold wpX_isBetween
  refine ⟨pk_in 0 48 (by omega), nm_r (show a4 (0 : Int32).toNatClampNeg = 0 by rw [sb_cl0, h4]) ⟨pk_in 0 48 (by omega), nm_r (show a4 (0 : Int32).toNatClampNeg = 0 by rw [sb_cl0, h4]) ⟨pk_in 0 24 (by omega), pk_in 0 24 (by omega), pk_in 0 24 (by omega), pk_in 0 24 (by omega), ?_⟩⟩⟩
  rw [sb_cl0]
  exact nm_e (br_c H0 H1)
theorem hs_where {post : Int32 → Prop} {x q : Int32} (hD : hs_D x s a2 a3 a4) (hq : hs_pl q) (H : post (if hs_pl x ∧ q = x then 1 else 0)) :
    wpX_where post (p, c, s, k, w, a1, a2, a3, a4, a5, a6, a7, a8, a9, a10, a11, a12, a13) (q - q / 64 * 64) (q / 64) := by
  unfold wpX_where
  by_cases hx : hs_pl x
  · obtain ⟨n, hn, en⟩ := hs_of hx
    obtain ⟨m, hm, em⟩ := hs_of hq
    obtain ⟨rfl, h4, h2, h3⟩ := hD.1 n hn en
    refine br_f (by decide) (br_f (by decide) (nm_r (show (1 : Int32) - 1 = 0 by decide) (hs_turnTo h4 (br_t rfl ?_))))
    have hd := hs_dist (show m % 64 < 64 by omega) (show n % 64 < 64 by omega) (show m / 64 < 64 by omega) (show n / 64 < 64 by omega)
    rw [em, hs_rem hm, hs_div hm]
    refine hs_isBetween h4 (fun z => br_t rfl ?_) (fun z => br_f (by decide) ?_)
    · rw [h2, h3, hd] at z
      have hne : ¬ (hs_pl x ∧ q = x) := by
        intro t
        have hmn : m = n := (nI_eq (by omega) (by omega)).mp (em.symm.trans (t.2.trans en))
        exact z (by rw [hmn]; exact ⟨rfl, rfl⟩)
      rw [if_neg hne] at H
      exact H
    · rw [h2, h3, hd] at z
      have hmn : m = n := by omega
      rw [if_pos ⟨hx, by rw [em, en, hmn]⟩] at H
      exact H
  · have hs := hD.2 hx
    subst hs
    rw [if_neg (fun t => hx t.1)] at H
    exact br_t rfl H
theorem hs_holds {post : Int32 → St2 → Prop} {x q : Int32} (h : hs_M x p a1) (H : ∀ (c s : Int32) (a2 a3 a4 : Nat → Int32), post (if hs_pl q then (if hs_pl x ∧ q = x then 1 else 0) else -10000) (p, c, s, k, w, a1, a2, a3, a4, a5, a6, a7, a8, a9, a10, a11, a12, a13)) :
    wpX_holds post (p, c, s, k, w, a1, a2, a3, a4, a5, a6, a7, a8, a9, a10, a11, a12, a13) q := by
  unfold wpX_holds
  refine hs_isPlace (fun hq => br_f (by decide) (hs_solve h (fun c s a2 a3 a4 hD => ⟨by decide, by decide, hs_where hD hq ?_⟩))) (fun hq => br_t rfl ?_)
  · have hh := H c s a2 a3 a4
    rw [if_pos hq] at hh
    exact hh
  · have hh := H c s a2 a3 a4
    rw [if_neg hq] at hh
    exact hh
theorem hs_along {post : Int32 → Prop} {i dx dy : Int32} (h4 : a4 0 = 0) (hi : (i + 1) - (i + 1) / 1 * 1 = 0) (H : post (dx * a2 0 + dy * a3 0)) :
    wpX_alongAt post (p, c, 1, k, w, a1, a2, a3, a4, a5, a6, a7, a8, a9, a10, a11, a12, a13) i dx dy := by
  unfold wpX_alongAt
  dsimp only
  rw [hi, sb_cl0]
  refine ⟨by decide, pk_in 0 48 (by omega), nm_r h4 ⟨pk_in 0 24 (by omega), pk_in 0 24 (by omega), ?_⟩⟩
  rw [sb_cl0]
  exact H
theorem hs_extreme {post : Int32 → St2 → Prop} {x dx dy : Int32} (h : hs_M x p a1) (H : ∀ (c s : Int32) (a2 a3 a4 : Nat → Int32), post (if hs_pl x ∧ hs_wy dx dy then (dx * (x &&& 63)) + (dy * (x >>> ((6 : Int32) &&& 31))) else -10000) (p, c, s, k, w, a1, a2, a3, a4, a5, a6, a7, a8, a9, a10, a11, a12, a13)) :
    wpX_extreme post (p, c, s, k, w, a1, a2, a3, a4, a5, a6, a7, a8, a9, a10, a11, a12, a13) dx dy := by
  unfold wpX_extreme
  have hB : ¬ (hs_pl x ∧ hs_wy dx dy) → post (-10000) (p, c, s, k, w, a1, a2, a3, a4, a5, a6, a7, a8, a9, a10, a11, a12, a13) := by
    intro z
    have hh := H c s a2 a3 a4
    rw [if_neg z] at hh
    exact hh
  refine br_c (fun z => hB (fun t => ?_)) (fun z0 => br_c (fun z => hB (fun t => t.2.1 z)) (fun z1 => br_c (fun z => hB (fun t => t.2.2.1 z)) (fun z2 => br_c (fun z => hB (fun t => t.2.2.2.1 z)) (fun z3 => br_c (fun z4 => ?_) (fun z => hB (fun t => z (hs_64.mpr t.2.2.2.2)))))))
  · rw [(h.1 t.1).1] at z
    exact absurd z (by decide)
  · have hx : hs_pl x := by
      by_cases hx : hs_pl x
      · exact hx
      · exact absurd (h.2 hx) z0
    refine hs_solve h (fun c s a2 a3 a4 hD => ?_)
    obtain ⟨n, hn, en⟩ := hs_of hx
    obtain ⟨rfl, h4, h2, h3⟩ := hD.1 n hn en
    have hh := H c 1 a2 a3 a4
    rw [if_pos ⟨hx, z1, z2, z3, hs_64.mp z4⟩, en, hs_and hn, hs_shr hn, ← h2, ← h3] at hh
    refine hs_along h4 (by decide) (hs_along h4 (by decide) (br_t (Int32.le_refl _) (nm_r (show (1 : Int32) - 1 = 0 by decide) ⟨1, br_f (by decide) (hs_along h4 (by decide) (hs_along h4 (by decide) (br_t (Int32.le_refl _) ?_)))⟩)))
    unfold wX_extreme_125
    exact hs_along h4 (by decide) hh
theorem hs_tangent {post : Int32 → St2 → Prop} {x q : Int32} (h : hs_M x p a1) (H : ∀ (c s : Int32) (a2 a3 a4 : Nat → Int32), post (if hs_pl q ∧ hs_pl x ∧ ¬ q = x then x else -10000) (p, c, s, k, w, a1, a2, a3, a4, a5, a6, a7, a8, a9, a10, a11, a12, a13)) :
    wpX_tangent post (p, c, s, k, w, a1, a2, a3, a4, a5, a6, a7, a8, a9, a10, a11, a12, a13) q := by
  unfold wpX_tangent
  refine hs_isPlace (fun hq => br_f (by decide) (br_c (fun z => ?_) (fun z0 => hs_solve h (fun c s a2 a3 a4 hD => ⟨by decide, nm_e ⟨by decide, nm_e (hs_where hD hq ?_)⟩⟩)))) (fun hq => br_t rfl ?_)
  · have hh := H c s a2 a3 a4
    rw [if_neg ?_] at hh
    · exact hh
    · intro t
      rw [(h.1 t.2.1).1] at z
      exact absurd z (by decide)
  · have hx : hs_pl x := by
      by_cases hx : hs_pl x
      · exact hx
      · exact absurd (h.2 hx) z0
    obtain ⟨n, hn, en⟩ := hs_of hx
    obtain ⟨rfl, h4, h2, h3⟩ := hD.1 n hn en
    have hh := H c 1 a2 a3 a4
    by_cases hqx : q = x
    · rw [if_neg (fun t => t.2.2 hqx)] at hh
      rw [if_pos ⟨hx, hqx⟩]
      exact br_f (by decide) hh
    · rw [if_pos ⟨hq, hx, hqx⟩, en] at hh
      rw [if_neg (fun t => hqx t.2)]
      exact br_t (by decide) ⟨1, br_t (by decide) (hs_placeAt h4 h2 h3 hh)⟩
  · have hh := H c s a2 a3 a4
    rw [if_neg (fun t => hq t.1)] at hh
    exact hh
end
end
section
theorem hs_ic {b c : Prop} [Decidable b] [Decidable c] {x y u v : Int32} (h : b ↔ c) (hx : x = u) (hy : y = v) : (if b then x else y) = (if c then u else v) := by
  subst hx
  subst hy
  by_cases hb : b
  · rw [if_pos hb, if_pos (h.mp hb)]
  · rw [if_neg hb, if_neg (fun t => hb (h.mpr t))]
section
variable {post : Int32 → St0 → Prop} {mc ms kc ks : Nat} {x0 x1 x2 x3 x4 x6 x7 x8 x9 x10 x11 x12 x13 x14 x16 z0 z1 : Int32}
theorem hs_261 (H : post 1 ()) (hz : z1 = z0) (h10 : x10 = x16) (h11 : x11 = if ¬ x14 = 0 ∧ ¬ x12 = 0 ∧ ¬ x2 = x0 then x0 else -10000) : wL_lawOf_261 post mc ms x0 x2 x10 x11 x12 x14 x16 z0 z1 kc ks := by
  unfold wL_lawOf_261
  refine br_t hz (br_t h10 (br_c (fun a => ?_) (fun a => br_c (fun b => ?_) (fun b => br_c (fun d => ?_) (fun d => ?_)))))
  · rw [if_neg (fun t => t.1 a)] at h11
    exact br_t h11 H
  · rw [if_neg (fun t => t.2.1 b)] at h11
    exact br_t h11 H
  · rw [if_neg (fun t => t.2.2 d)] at h11
    exact br_t h11 H
  · rw [if_pos ⟨a, b, d⟩] at h11
    exact br_t h11 H
theorem hs_230 (H : post 1 ()) (hz : z1 = z0) (h9 : x9 = if ¬ x14 = 0 then (if ¬ x12 = 0 ∧ x2 = x0 then 1 else 0) else -10000) (h10 : x10 = x16) (h11 : x11 = if ¬ x14 = 0 ∧ ¬ x12 = 0 ∧ ¬ x2 = x0 then x0 else -10000) : wL_lawOf_230 post mc ms x0 x2 x9 x10 x11 x12 x14 x16 z0 z1 kc ks := by
  unfold wL_lawOf_230
  refine br_t hz (br_c (fun a => hs_261 H ?_ h10 h11) (fun a => ?_))
  · rw [if_neg (fun t => t a)] at h9
    exact h9
  · rw [if_pos a] at h9
    refine br_c (fun b => ?_) (fun b => br_c (fun d => hs_261 H ?_ h10 h11) (fun d => ?_))
    · unfold wL_lawOf_260
      rw [if_neg (fun t => t.1 b)] at h9
      exact hs_261 H h9 h10 h11
    · rw [if_pos ⟨b, d⟩] at h9
      exact h9
    · unfold wL_lawOf_260
      rw [if_neg (fun t => d t.2)] at h9
      exact hs_261 H h9 h10 h11
theorem hs_213 (H : post 1 ()) (hz : z1 = z0) (h8 : x8 = if ¬ x13 = 0 then 0 else -10000) (h9 : x9 = if ¬ x14 = 0 then (if ¬ x12 = 0 ∧ x2 = x0 then 1 else 0) else -10000) (h10 : x10 = x16) (h11 : x11 = if ¬ x14 = 0 ∧ ¬ x12 = 0 ∧ ¬ x2 = x0 then x0 else -10000) : wL_lawOf_213 post mc ms x0 x2 x8 x9 x10 x11 x12 x13 x14 x16 z0 z1 kc ks := by
  unfold wL_lawOf_213
  refine br_t hz (br_c (fun a => hs_230 H ?_ h9 h10 h11) (fun a => hs_230 H ?_ h9 h10 h11))
  · rw [if_neg (fun t => t a)] at h8
    exact h8
  · rw [if_pos a] at h8
    exact h8
theorem hs_191 (H : post 1 ()) (hz : z1 = z0) (h7 : x7 = if ¬ x13 = 0 ∧ ¬ x12 = 0 then x0 else -10000) (h8 : x8 = if ¬ x13 = 0 then 0 else -10000) (h9 : x9 = if ¬ x14 = 0 then (if ¬ x12 = 0 ∧ x2 = x0 then 1 else 0) else -10000) (h10 : x10 = x16) (h11 : x11 = if ¬ x14 = 0 ∧ ¬ x12 = 0 ∧ ¬ x2 = x0 then x0 else -10000) : wL_lawOf_191 post mc ms x0 x2 x7 x8 x9 x10 x11 x12 x13 x14 x16 z0 z1 kc ks := by
  unfold wL_lawOf_191
  refine br_t hz (br_c (fun a => ?_) (fun a => br_c (fun b => ?_) (fun b => ?_)))
  · unfold wL_lawOf_210
    rw [if_neg (fun t => t.1 a)] at h7
    exact hs_213 H h7 h8 h9 h10 h11
  · unfold wL_lawOf_210
    rw [if_neg (fun t => t.2 b)] at h7
    exact hs_213 H h7 h8 h9 h10 h11
  · rw [if_pos ⟨a, b⟩] at h7
    exact hs_213 H h7 h8 h9 h10 h11
theorem hs_175 (H : post 1 ()) (h6 : x6 = if ¬ x12 = 0 then 0 else -10000) (h7 : x7 = if ¬ x13 = 0 ∧ ¬ x12 = 0 then x0 else -10000) (h8 : x8 = if ¬ x13 = 0 then 0 else -10000) (h9 : x9 = if ¬ x14 = 0 then (if ¬ x12 = 0 ∧ x2 = x0 then 1 else 0) else -10000) (h10 : x10 = z0) (h11 : x11 = if ¬ x14 = 0 ∧ ¬ x12 = 0 ∧ ¬ x2 = x0 then x0 else -10000) : wL_lawOf_175 post mc ms x0 x2 x6 x7 x8 x9 x10 x11 x12 x13 x14 z0 kc ks := by
  unfold wL_lawOf_175
  refine br_c (fun a => ?_) (fun a => ?_)
  · rw [if_neg (fun t => t a)] at h6
    exact hs_191 H h6 h7 h8 h9 h10 h11
  · rw [if_pos a] at h6
    exact hs_191 H h6 h7 h8 h9 h10 h11
theorem hs_143 (H : post 1 ()) (e12 : ¬ x12 = 0 ↔ hs_pl x0) (e13 : ¬ x13 = 0 ↔ hs_en x1) (e14 : ¬ x14 = 0 ↔ hs_pl x2) (ez : ¬ z0 = 0 ↔ hs_wy x3 x4) (h6 : x6 = if hs_pl x0 then 0 else -10000) (h7 : x7 = if hs_en x1 ∧ hs_pl x0 then x0 else -10000) (h8 : x8 = if hs_en x1 then 0 else -10000) (h9 : x9 = if hs_pl x2 then (if hs_pl x0 ∧ x2 = x0 then 1 else 0) else -10000) (h10 : x10 = if hs_pl x0 ∧ hs_wy x3 x4 then (x3 * (x0 &&& 63)) + (x4 * (x0 >>> ((6 : Int32) &&& 31))) else -10000) (h11 : x11 = if hs_pl x2 ∧ hs_pl x0 ∧ ¬ x2 = x0 then x0 else -10000) : wL_lawOf_143 post mc ms x0 x2 x3 x4 x6 x7 x8 x9 x10 x11 x12 x13 x14 z0 kc ks := by
  have g6 : x6 = if ¬ x12 = 0 then 0 else -10000 := h6.trans (hs_ic e12.symm rfl rfl)
  have g7 : x7 = if ¬ x13 = 0 ∧ ¬ x12 = 0 then x0 else -10000 := h7.trans (hs_ic (and_congr e13.symm e12.symm) rfl rfl)
  have g8 : x8 = if ¬ x13 = 0 then 0 else -10000 := h8.trans (hs_ic e13.symm rfl rfl)
  have g9 : x9 = if ¬ x14 = 0 then (if ¬ x12 = 0 ∧ x2 = x0 then 1 else 0) else -10000 := h9.trans (hs_ic e14.symm (hs_ic (and_congr e12.symm Iff.rfl) rfl rfl) rfl)
  have g11 : x11 = if ¬ x14 = 0 ∧ ¬ x12 = 0 ∧ ¬ x2 = x0 then x0 else -10000 := h11.trans (hs_ic (and_congr e14.symm (and_congr e12.symm Iff.rfl)) rfl rfl)
  unfold wL_lawOf_143
  refine br_c (fun a => ?_) (fun a => br_c (fun b => ?_) (fun b => ?_))
  · unfold wL_lawOf_172
    rw [if_neg (fun t => e12.mpr t.1 a)] at h10
    exact hs_175 H g6 g7 g8 g9 h10 g11
  · unfold wL_lawOf_172
    rw [if_neg (fun t => ez.mpr t.2 b)] at h10
    exact hs_175 H g6 g7 g8 g9 h10 g11
  · rw [if_pos ⟨e12.mp a, ez.mp b⟩] at h10
    exact hs_175 H g6 g7 g8 g9 h10 g11
theorem hs_no {P : Prop} (h : ¬ P) : ¬ (0 : Int32) = 0 ↔ P := ⟨fun z => absurd rfl z, fun z => absurd z h⟩
theorem hs_yes {P : Prop} (h : P) : ¬ (1 : Int32) = 0 ↔ P := ⟨fun _ => h, fun _ => by decide⟩
theorem hs_110 (H : post 1 ()) (e12 : ¬ x12 = 0 ↔ hs_pl x0) (e13 : ¬ x13 = 0 ↔ hs_en x1) (e14 : ¬ z0 = 0 ↔ hs_pl x2) (h6 : x6 = if hs_pl x0 then 0 else -10000) (h7 : x7 = if hs_en x1 ∧ hs_pl x0 then x0 else -10000) (h8 : x8 = if hs_en x1 then 0 else -10000) (h9 : x9 = if hs_pl x2 then (if hs_pl x0 ∧ x2 = x0 then 1 else 0) else -10000) (h10 : x10 = if hs_pl x0 ∧ hs_wy x3 x4 then (x3 * (x0 &&& 63)) + (x4 * (x0 >>> ((6 : Int32) &&& 31))) else -10000) (h11 : x11 = if hs_pl x2 ∧ hs_pl x0 ∧ ¬ x2 = x0 then x0 else -10000) : wL_lawOf_110 post mc ms x0 x2 x3 x4 x6 x7 x8 x9 x10 x11 x12 x13 z0 kc ks := by
  have hN : ¬ hs_wy x3 x4 → wL_lawOf_142 post mc ms x0 x2 x3 x4 x6 x7 x8 x9 x10 x11 x12 x13 z0 kc ks := by
    intro z
    unfold wL_lawOf_142
    exact hs_143 H e12 e13 e14 (hs_no z) h6 h7 h8 h9 h10 h11
  unfold wL_lawOf_110
  exact br_c (fun a => hN (fun t => t.1 a)) (fun a => br_c (fun b => hN (fun t => t.2.1 b)) (fun b => br_c (fun d => hN (fun t => t.2.2.1 d)) (fun d => br_c (fun f => hN (fun t => t.2.2.2 f)) (fun f => hs_143 H e12 e13 e14 (hs_yes ⟨a, b, d, f⟩) h6 h7 h8 h9 h10 h11))))
theorem hs_92 (H : post 1 ()) (e12 : ¬ x12 = 0 ↔ hs_pl x0) (e13 : ¬ z0 = 0 ↔ hs_en x1) (h6 : x6 = if hs_pl x0 then 0 else -10000) (h7 : x7 = if hs_en x1 ∧ hs_pl x0 then x0 else -10000) (h8 : x8 = if hs_en x1 then 0 else -10000) (h9 : x9 = if hs_pl x2 then (if hs_pl x0 ∧ x2 = x0 then 1 else 0) else -10000) (h10 : x10 = if hs_pl x0 ∧ hs_wy x3 x4 then (x3 * (x0 &&& 63)) + (x4 * (x0 >>> ((6 : Int32) &&& 31))) else -10000) (h11 : x11 = if hs_pl x2 ∧ hs_pl x0 ∧ ¬ x2 = x0 then x0 else -10000) : wL_lawOf_92 post mc ms x0 x2 x3 x4 x6 x7 x8 x9 x10 x11 x12 z0 kc ks := by
  have hN : ¬ hs_pl x2 → wL_lawOf_109 post mc ms x0 x2 x3 x4 x6 x7 x8 x9 x10 x11 x12 z0 kc ks := by
    intro z
    unfold wL_lawOf_109
    exact hs_110 H e12 e13 (hs_no z) h6 h7 h8 h9 h10 h11
  unfold wL_lawOf_92
  exact br_c (fun a => hN (fun t => t.1 a)) (fun a => br_c (fun b => hN (fun t => t.2 b)) (fun b => hs_110 H e12 e13 (hs_yes ⟨a, b⟩) h6 h7 h8 h9 h10 h11))
theorem hs_76 (H : post 1 ()) (e12 : ¬ z0 = 0 ↔ hs_pl x0) (h6 : x6 = if hs_pl x0 then 0 else -10000) (h7 : x7 = if hs_en x1 ∧ hs_pl x0 then x0 else -10000) (h8 : x8 = if hs_en x1 then 0 else -10000) (h9 : x9 = if hs_pl x2 then (if hs_pl x0 ∧ x2 = x0 then 1 else 0) else -10000) (h10 : x10 = if hs_pl x0 ∧ hs_wy x3 x4 then (x3 * (x0 &&& 63)) + (x4 * (x0 >>> ((6 : Int32) &&& 31))) else -10000) (h11 : x11 = if hs_pl x2 ∧ hs_pl x0 ∧ ¬ x2 = x0 then x0 else -10000) : wL_lawOf_76 post mc ms x0 x1 x2 x3 x4 x6 x7 x8 x9 x10 x11 z0 kc ks := by
  have hN : ¬ hs_en x1 → wL_lawOf_91 post mc ms x0 x2 x3 x4 x6 x7 x8 x9 x10 x11 z0 kc ks := by
    intro z
    unfold wL_lawOf_91
    exact hs_92 H e12 (hs_no z) h6 h7 h8 h9 h10 h11
  unfold wL_lawOf_76
  exact br_c (fun a => hN (fun t => t.1 a)) (fun a => br_c (fun b => hN (fun t => t.2 b)) (fun b => hs_92 H e12 (hs_yes ⟨a, b⟩) h6 h7 h8 h9 h10 h11))
theorem hs_lawOf (H : post 1 ()) : wpL_lawOf post 94 1504 () x0 x1 x2 x3 x4 := by
  unfold wpL_lawOf
  refine ⟨by decide, by decide, 20, 500, by decide, by decide, ?_⟩
  unfold wpX_init
  refine ⟨by decide, by decide, by decide, by decide, by decide, by decide, by decide, by decide, by decide, by decide, by decide, by decide, by decide, by decide, by decide, by decide, by decide, by decide, by decide, by decide, by decide, by decide, by decide, by decide, by decide, by decide, ?_⟩
  refine hs_add (fun p a1 hM => ?_)
  refine hs_corner hM (fun c s a2 a3 a4 => ?_)
  refine hs_area hM (fun c s a2 a3 a4 => ?_)
  refine hs_holds hM (fun c s a2 a3 a4 => ?_)
  refine hs_extreme hM (fun c s a2 a3 a4 => ?_)
  refine hs_tangent hM (fun c s a2 a3 a4 => ?_)
  refine br_c (fun a => ?_) (fun a => br_c (fun b => ?_) (fun b => hs_76 H (hs_yes ⟨a, b⟩) rfl rfl rfl rfl rfl rfl))
  · unfold wL_lawOf_75
    exact hs_76 H (hs_no (fun t => t.1 a)) rfl rfl rfl rfl rfl rfl
  · unfold wL_lawOf_75
    exact hs_76 H (hs_no (fun t => t.2 b)) rfl rfl rfl rfl rfl rfl
end
theorem hs_cell {post : Int32 → Prop} {L : Nat} {xs : Nat → Int32} {q : Int32} (i : Nat) (hL : L ≤ 5) (hi : i < 5) (hq : q = nI i) (H : ∀ v, post v) : wpL_cellAt post L xs () q :=
  pk_le L i (fun _ => H _) (fun z => ⟨pk_in i L z hq, H _⟩) rfl hq
theorem i_vc (xs : Nat → Int32) (L : Nat) (hL : L ≤ 5) : wpL_law (fun r => r = 1) L xs := by
  unfold wpL_law
  exact hs_cell 0 hL (by decide) rfl (fun r1 => hs_cell 1 hL (by decide) rfl (fun r2 => hs_cell 2 hL (by decide) rfl (fun r3 => hs_cell 3 hL (by decide) rfl (fun r4 => hs_cell 4 hL (by decide) rfl (fun r5 => ⟨94, 1504, by decide, by decide, hs_lawOf rfl⟩)))))
end
