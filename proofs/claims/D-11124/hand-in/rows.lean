section
/-- a whole number that is small stays itself under bmod -/
theorem du_b32 {n : Int} (h1 : -2147483648 ≤ n) (h2 : n < 2147483648) : n.bmod (2 ^ 32) = n :=
  Int.bmod_eq_of_le (by omega) (by omega)
theorem du_b64 {n : Int} (h1 : -9223372036854775808 ≤ n) (h2 : n < 9223372036854775808) : n.bmod (2 ^ 64) = n :=
  Int.bmod_eq_of_le (by omega) (by omega)
theorem du_b8 {n : Int} (h1 : -128 ≤ n) (h2 : n < 128) : n.bmod (2 ^ 8) = n :=
  Int.bmod_eq_of_le (by omega) (by omega)
/-- the remainder by 1000 lies between -999 and 999 -/
theorem du_rem (a : Int32) : -999 ≤ (a - a / 1000 * 1000).toInt ∧ (a - a / 1000 * 1000).toInt ≤ 999 := by
  have q : (a / 1000).toInt = a.toInt.tdiv 1000 := Int32.toInt_div_of_ne_right a 1000 (by decide)
  have k : (1000 : Int32).toInt = 1000 := rfl
  have e := Int.mul_tdiv_add_tmod a.toInt 1000
  have l := Int.lt_tmod_of_pos a.toInt (b := 1000) (by omega)
  have u := Int.tmod_lt_of_pos a.toInt (b := 1000) (by omega)
  have al := Int32.le_toInt a
  have au := Int32.toInt_lt a
  have s : (0 ≤ a.toInt ∧ 0 ≤ a.toInt.tmod 1000) ∨ (a.toInt < 0 ∧ a.toInt.tmod 1000 ≤ 0) := by
    by_cases g : 0 ≤ a.toInt
    · exact Or.inl ⟨g, Int.tmod_nonneg 1000 g⟩
    · have h := Int.tmod_nonneg (a := -a.toInt) 1000 (by omega)
      rw [Int.neg_tmod] at h
      exact Or.inr ⟨by omega, by omega⟩
  have m' : (a / 1000 * 1000).toInt = a.toInt.tdiv 1000 * 1000 := by
    rw [Int32.toInt_mul, q, k, du_b32 (by omega) (by omega)]
  rw [Int32.toInt_sub, m', du_b32 (by omega) (by omega)]
  omega
/-- the exponents of the law lie between -10 and 10 -/
theorem du_exp (e : Int32) : -10 ≤ (((e &&& 255) - (e &&& 255) / 21 * 21) - 10).toInt ∧ (((e &&& 255) - (e &&& 255) / 21 * 21) - 10).toInt ≤ 10 := by
  obtain ⟨j, hj, ej⟩ := pk_andE e (m := 255) 8 (by decide)
  have h : (e &&& 255) - (e &&& 255) / 21 * 21 = nI (j % 21) := by
    rw [ej]
    exact pk_rem (a := j) (d := 21) (by omega) (by omega) (by omega)
  rw [h]
  have t : (nI (j % 21) - 10).toInt = ((j % 21 : Nat) : Int) - (10 : Nat) := pk_sub_toInt (a := j % 21) (b := 10) (by omega) (by omega)
  rw [t]
  omega
theorem du_byte {x : Int32} (h1 : -128 ≤ x.toInt) (h2 : x.toInt < 128) : x.toInt8.toInt32 = x := by
  apply Int32.toInt_inj.mp
  rw [Int8.toInt_toInt32, Int32.toInt_toInt8, du_b8 h1 h2]
theorem du_sumE {g h : Int32} (g1 : -10 ≤ g.toInt) (g2 : g.toInt ≤ 10) (h1 : -10 ≤ h.toInt) (h2 : h.toInt ≤ 10) : -20 ≤ (g + h).toInt ∧ (g + h).toInt ≤ 20 := by
  rw [Int32.toInt_add, du_b32 (by omega) (by omega)]
  omega
theorem du_n20 {w : Int32} (h : -20 ≤ w.toInt) : ¬ w < -20 := by
  intro z
  have z' := Int32.lt_iff_toInt_lt.mp z
  rw [show (-20 : Int32).toInt = -20 from rfl] at z'
  omega
theorem du_g20 {w : Int32} (h : -20 ≤ w.toInt) : -20 ≤ w := by
  apply Int32.le_iff_toInt_le.mpr
  rw [show (-20 : Int32).toInt = -20 from rfl]
  omega
theorem du_p20 {w : Int32} (h : w.toInt ≤ 20) : w ≤ 20 := by
  apply Int32.le_iff_toInt_le.mpr
  rw [show (20 : Int32).toInt = 20 from rfl]
  omega
theorem du_lt7 {v : Int64} (h : v.toInt ≤ 9999999) : v < 10000000 := by
  apply Int64.lt_iff_toInt_lt.mpr
  rw [show (10000000 : Int64).toInt = 10000000 from rfl]
  omega
theorem du_neg {v : Int64} (hl : -9999999 ≤ v.toInt) (hu : v.toInt ≤ 9999999) : (-v).toInt = -v.toInt := by
  rw [Int64.toInt_neg, du_b64 (by omega) (by omega)]
/-- sign and number without sign of v -/
def du_S (ng : Int32) (mg v : Int64) : Prop := ng = 0 ∧ mg = v ∨ ng = 1 ∧ mg = -v
theorem du_S7 {ng : Int32} {mg v : Int64} (h : du_S ng mg v) (hl : -9999999 ≤ v.toInt) (hu : v.toInt ≤ 9999999) : mg < 10000000 := by
  rcases h with ⟨_, e⟩ | ⟨_, e⟩
  · rw [e]
    exact du_lt7 hu
  · rw [e]
    exact du_lt7 (by rw [du_neg hl hu]; omega)
theorem du_S0 {ng : Int32} {mg v : Int64} (h : du_S ng mg v) (z : ng = 0) : mg.toInt32 = v.toInt32 := by
  rcases h with ⟨_, e⟩ | ⟨e', e⟩
  · rw [e]
  · rw [z] at e'
    exact absurd e' (by decide)
theorem du_S1 {ng : Int32} {mg v : Int64} (h : du_S ng mg v) (z : ¬ ng = 0) : (-mg).toInt32 = v.toInt32 := by
  rcases h with ⟨e', e⟩ | ⟨_, e⟩
  · exact absurd e' z
  · rw [e, Int64.neg_neg]
/-- the size that set compares -/
theorem du_c7 {c : Int32} (h2 : c.toInt ≤ 999) : c.toInt64 < 10000000 :=
  du_lt7 (by rw [Int32.toInt_toInt64]; omega)
theorem du_cn7 {c : Int32} (h1 : -999 ≤ c.toInt) (h2 : c.toInt ≤ 999) : -c.toInt64 < 10000000 :=
  du_lt7 (by rw [du_neg (by rw [Int32.toInt_toInt64]; omega) (by rw [Int32.toInt_toInt64]; omega), Int32.toInt_toInt64]; omega)
theorem du_prodI {x y : Int} (x1 : -999 ≤ x) (x2 : x ≤ 999) (y1 : -999 ≤ y) (y2 : y ≤ 999) : -998001 ≤ x * y ∧ x * y ≤ 998001 := by
  have h : (x * y).natAbs ≤ 999 * 999 := by
    rw [Int.natAbs_mul]
    exact Nat.mul_le_mul (by omega) (by omega)
  omega
theorem du_prod {c d : Int32} (c1 : -999 ≤ c.toInt) (c2 : c.toInt ≤ 999) (d1 : -999 ≤ d.toInt) (d2 : d.toInt ≤ 999) : -9999999 ≤ (c.toInt64 * d.toInt64).toInt ∧ (c.toInt64 * d.toInt64).toInt ≤ 9999999 := by
  have h := du_prodI c1 c2 d1 d2
  rw [Int64.toInt_mul, Int32.toInt_toInt64, Int32.toInt_toInt64, du_b64 (by omega) (by omega)]
  omega
theorem du_diff {c d : Int32} (c1 : -999 ≤ c.toInt) (c2 : c.toInt ≤ 999) (d1 : -999 ≤ d.toInt) (d2 : d.toInt ≤ 999) : -9999999 ≤ (c.toInt64 + -d.toInt64).toInt ∧ (c.toInt64 + -d.toInt64).toInt ≤ 9999999 := by
  have hd : (-d.toInt64).toInt = -d.toInt := by
    rw [du_neg (by rw [Int32.toInt_toInt64]; omega) (by rw [Int32.toInt_toInt64]; omega), Int32.toInt_toInt64]
  rw [Int64.toInt_add, hd, Int32.toInt_toInt64, du_b64 (by omega) (by omega)]
  omega
theorem du_prod32 (c d : Int32) : (c.toInt64 * d.toInt64).toInt32 = c * d := by
  rw [Int64.toInt32_mul, Int32.toInt32_toInt64, Int32.toInt32_toInt64]
theorem du_diff32 (c d : Int32) : (c.toInt64 + -d.toInt64).toInt32 = c - d := by
  rw [Int64.toInt32_add, Int64.toInt32_neg, Int32.toInt32_toInt64, Int32.toInt32_toInt64, Int32.sub_eq_add_neg]
end
section
/-- the constructor: the powers of ten that are asked later -/
theorem du_init {post : St2 → Prop} {mc ms : Nat} (h1 : 3 ≤ mc) (h2 : 31 ≤ ms)
    (hp : ∀ a3 : Nat → Int64, a3 0 = 1 → a3 7 = 10000000 → post (7, 0, 0, 0, 0, 0, 0, (fun _ => 0), (fun _ => 0), a3)) :
    wpX_init post mc ms (0, 0, 0, 0, 0, 0, 0) 7 := by
  refine ⟨by omega, by omega, by omega, by omega, by omega, by omega, br_t (by decide) (br_t (by decide) (nm_e ?_))⟩
  refine pk_loop (fun n i s => wX_init_62 post mc ms 3 31 7 0 0 0 0 0 0 n (nI i) (fun _ => 0) (fun _ => 0) s) (fun i s => 1 ≤ i ∧ ∀ j, j < i → s j = lN (10 ^ j)) 19 1 _ (by omega) ?_ ?_ ?_
  · refine ⟨by omega, fun j hj => ?_⟩
    have e : j = 0 := by omega
    rw [e]
    rfl
  · intro n s h
    exact pk_le 19 19 (fun _ => hp s (h.2 0 (by omega)) (h.2 7 (by omega))) (fun z => absurd z (by omega))
  · intro n i s hi h hw
    obtain ⟨k, rfl⟩ : ∃ k, i = k + 1 := ⟨i - 1, by omega⟩
    refine pk_le 19 (k + 1) (fun z => absurd z (by omega)) (fun _ => ⟨pk_in k 19 (by omega) (nI_pred k), pk_in (k + 1) 19 (by omega), nm_e (nm_r (nI_1 (k + 1)) (hw _ ⟨by omega, fun j hj => ?_⟩))⟩)
    rw [nI_clamp (show k + 1 < 2 ^ 31 by omega), nI_pred k, nI_clamp (show k < 2 ^ 31 by omega)]
    by_cases e : j = k + 1
    · rw [e, pk_uLs, h.2 k (by omega), Nat.pow_succ, Nat.mul_comm]
      exact lN_mul 10 (10 ^ k)
    · rw [pk_uLn e]
      exact h.2 j (by omega)
/-- digitsOf of a number below 10^7: at most 7 -/
theorem du_digits {post : Int32 → Prop} {p rm ra ng : Int32} {mg : Int64} {sc mo : Int32} {a1 a2 : Nat → Int32} {a3 : Nat → Int64} {m : Int64}
    (h7 : m < a3 7) (hp : ∀ r : Nat, r ≤ 7 → post (nI r)) :
    wpX_digitsOf post (p, rm, ra, ng, mg, sc, mo, a1, a2, a3) m := by
  refine pk_loop (σ := Unit) (fun n i _ => wX_digitsOf_2 post m p rm ra ng mg sc mo a1 a2 a3 n (nI i)) (fun _ _ => True) 7 1 () (by omega) trivial ?_ ?_
  · intro n _ _
    exact pk_le 19 7 (fun z => absurd z (by omega)) (fun _ => ⟨pk_in 7 19 (by omega), br_t h7 (hp 7 (by omega))⟩)
  · intro n i _ hi _ hw
    exact pk_le 19 i (fun z => absurd z (by omega)) (fun _ => ⟨pk_in i 19 (by omega), br_c (fun _ => hp i (by omega)) (fun _ => nm_r (nI_1 i) (hw () trivial))⟩)
theorem du_take {post : St2 → Prop} {p rm ra ng : Int32} {mg : Int64} {sc mo : Int32} {a1 a2 : Nat → Int32} {a3 : Nat → Int64} {v v' : Int64} {w : Int32}
    (hv : v = v') (hp : ∀ ng' mg', du_S ng' mg' v' → post (p, rm, ra, ng', mg', w, 0, a1, a2, a3)) :
    wpX_take post (p, rm, ra, ng, mg, sc, mo, a1, a2, a3) v w := by
  subst hv
  exact br_c (fun _ => ⟨rfl, rfl, br_t rfl (hp 0 v (Or.inl ⟨rfl, rfl⟩))⟩) (fun _ => ⟨rfl, rfl, br_f (by decide) (hp 1 (-v) (Or.inr ⟨rfl, rfl⟩))⟩)
theorem du_store {post : St2 → Prop} {p rm ra ng : Int32} {mg : Int64} {sc mo : Int32} {a1 a2 : Nat → Int32} {a3 : Nat → Int64} {d V : Int32}
    (hd : vp_in d 6) (h0 : ng = 0 → mg.toInt32 = V) (h1 : ¬ ng = 0 → (-mg).toInt32 = V)
    (hp : post (p, rm, ra, ng, mg, sc, mo, upd a1 d.toNatClampNeg V, upd a2 d.toNatClampNeg sc.toInt8.toInt32, a3)) :
    wpX_store post (p, rm, ra, ng, mg, sc, mo, a1, a2, a3) d :=
  br_c (fun z => ⟨hd, nm_r (by rw [h0 z]) ⟨hd, nm_e hp⟩⟩) (fun z => ⟨hd, nm_r (by rw [h1 z]) ⟨hd, nm_e hp⟩⟩)
theorem du_approach {post : St2 → Prop} {rm ra ng : Int32} {mg : Int64} {w mo : Int32} {a1 a2 : Nat → Int32} {a3 : Nat → Int64}
    (h7 : mg < a3 7) (hp : post (7, rm, ra, ng, mg, w, mo, a1, a2, a3)) :
    wpX_approach post (7, rm, ra, ng, mg, w, mo, a1, a2, a3) w := by
  unfold wpX_approach
  dsimp only
  refine du_digits h7 (fun r hr => ⟨1, by decide, ?_⟩)
  have t : ∃ n, wX_approach_66 post w 7 rm ra ng mo a1 a2 a3 n (nI r) mg w := ⟨1, br_t (Int32.le_refl w) hp⟩
  exact br_c (fun _ => br_f Int32.lt_irrefl (pk_le r 7 (fun _ => t) (fun z => absurd z (by omega)))) (fun _ => t)
/-- finish where the exponent is the wanted one and there is room for the digits: nothing is rounded, the answer is 0 -/
theorem du_finish {post : Int32 → St2 → Prop} {rm ra ng : Int32} {mg : Int64} {w : Int32} {a1 a2 : Nat → Int32} {a3 : Nat → Int64} {d V : Int32}
    (hd : vp_in d 6) (h7 : mg < a3 7) (w1 : -20 ≤ w.toInt) (w2 : w.toInt ≤ 20) (h0 : ng = 0 → mg.toInt32 = V) (h1 : ¬ ng = 0 → (-mg).toInt32 = V)
    (hp : ∀ ra' ng', post 0 (7, rm, ra', ng', mg, w, 0, upd a1 d.toNatClampNeg V, upd a2 d.toNatClampNeg w.toInt8.toInt32, a3)) :
    wpX_finish post (7, rm, ra, ng, mg, w, 0, a1, a2, a3) d w := by
  have s : wX_finish_155 post d 0 7 rm ra ng mg w 0 a1 a2 a3 := by
    unfold wX_finish_155
    exact br_f (du_n20 w1) (br_t (du_p20 w2) (du_store hd h0 h1 (nm_e (hp _ _))))
  have t : wX_finish_59 post d w 7 rm ra ng mg w 0 a1 a2 a3 := by
    unfold wX_finish_59
    refine br_t rfl (du_approach h7 ?_)
    unfold wX_finish_73
    exact du_digits h7 (fun r hr => pk_le r 7 (fun _ => br_t (Int32.le_refl w) s) (fun z => absurd z (by omega)))
  refine br_c (fun z => br_t rfl (br_t (du_g20 w1) (br_t (du_p20 w2) ?_))) (fun _ => t)
  unfold wX_finish_45
  refine du_store hd (fun _ => ?_) (fun g => absurd rfl g) (nm_e (hp _ _))
  by_cases g : ng = 0
  · exact h0 g
  · rw [← h1 g, z]
    rfl
/-- sum of two numbers of one exponent -/
theorem du_sum79 {post : St2 → Prop} {p rm ra ng : Int32} {mg : Int64} {sc mo : Int32} {a1 a2 : Nat → Int32} {a3 : Nat → Int64} {x y z : Int64} {w : Int32}
    (e0 : a3 0 = 1) (hz : z < a3 7) (hp : ∀ ng' mg', du_S ng' mg' (x + y) → post (p, rm, ra, ng', mg', w, 0, a1, a2, a3)) :
    wX_sum_79 post x y w w (nI 0) z p rm ra ng mg sc mo a1 a2 a3 := by
  unfold wX_sum_79
  refine du_digits hz (fun r hr => br_c (fun g => du_take (v' := x + y) ?_ hp) (fun _ => pk_lt 18 (r + 0) (fun t => absurd t (by omega)) (fun _ => ⟨pk_in 0 19 (by omega), du_take (v' := x + y) ?_ hp⟩) rfl (nI_add r 0)))
  · rw [g, Int64.zero_add]
  · rw [show (nI 0).toNatClampNeg = 0 from rfl, e0, Int64.mul_one]
theorem du_sum {post : St2 → Prop} {p rm ra ng : Int32} {mg : Int64} {sc mo : Int32} {a1 a2 : Nat → Int32} {a3 : Nat → Int64} {x y : Int64} {w : Int32}
    (e0 : a3 0 = 1) (h1 : x < a3 7) (h2 : -x < a3 7) (hp : ∀ ng' mg', du_S ng' mg' (x + y) → post (p, rm, ra, ng', mg', w, 0, a1, a2, a3)) :
    wpX_sum post (p, rm, ra, ng, mg, sc, mo, a1, a2, a3) x w y w := by
  have n : ¬ w < w := Int32.lt_irrefl
  refine br_f n (br_f n (br_f n (br_f n (nm_r (e' := nI 0) (by rw [Int32.sub_self]; rfl) (br_c (fun _ => du_sum79 e0 h1 hp) (fun _ => du_sum79 e0 h2 hp))))))
/-- a register's number -/
theorem du_isReg {post : Int32 → Prop} {u : St2} {r : Int32} (h1 : ¬ r < 0) (h2 : ¬ 5 < r) (hp : post 1) : wpX_isRegister post u r :=
  br_f h1 (br_f h2 hp)
theorem du_set {post : Int32 → St2 → Prop} {rm ra ng : Int32} {mg : Int64} {sc mo : Int32} {a1 a2 : Nat → Int32} {a3 : Nat → Int64} {r c g : Int32}
    (r1 : ¬ r < 0) (r2 : ¬ 5 < r) (hr : vp_in r 6) (e7 : a3 7 = 10000000) (c1 : -999 ≤ c.toInt) (c2 : c.toInt ≤ 999) (g1 : -10 ≤ g.toInt) (g2 : g.toInt ≤ 10)
    (hp : post 1 (7, rm, ra, ng, mg, sc, mo, upd a1 r.toNatClampNeg c, upd a2 r.toNatClampNeg g, a3)) :
    wpX_set post (7, rm, ra, ng, mg, sc, mo, a1, a2, a3) r c g := by
  have t : ∀ z : Int64, z < 10000000 → wX_set_34 post r c g z 7 rm ra ng mg sc mo a1 a2 a3 := by
    intro z hz
    rw [← e7] at hz
    exact ⟨pk_in 7 19 (by omega), br_t hz ⟨hr, nm_e ⟨hr, nm_r (by rw [du_byte (x := g) (by omega) (by omega)]) hp⟩⟩⟩
  unfold wpX_set
  dsimp only
  exact du_isReg r1 r2 (br_f (by decide) (br_f (du_n20 (by omega)) (br_t (du_p20 (by omega)) (br_c (fun _ => t _ (du_c7 c2)) (fun _ => t _ (du_cn7 c1 c2))))))
theorem du_coef {post : Int32 → Prop} {p rm ra ng : Int32} {mg : Int64} {sc mo : Int32} {a1 a2 : Nat → Int32} {a3 : Nat → Int64} {r : Int32}
    (r1 : ¬ r < 0) (r2 : ¬ 5 < r) (hr : vp_in r 6) (hp : post (a1 r.toNatClampNeg)) : wpX_coefficient post (p, rm, ra, ng, mg, sc, mo, a1, a2, a3) r := by
  unfold wpX_coefficient
  dsimp only
  exact du_isReg r1 r2 (br_f (by decide) ⟨hr, hp⟩)
theorem du_expo {post : Int32 → Prop} {p rm ra ng : Int32} {mg : Int64} {sc mo : Int32} {a1 a2 : Nat → Int32} {a3 : Nat → Int64} {r : Int32}
    (r1 : ¬ r < 0) (r2 : ¬ 5 < r) (hr : vp_in r 6) (hp : post (a2 r.toNatClampNeg)) : wpX_exponent post (p, rm, ra, ng, mg, sc, mo, a1, a2, a3) r := by
  unfold wpX_exponent
  dsimp only
  exact du_isReg r1 r2 (br_f (by decide) ⟨hr, hp⟩)
/-- apply MUL to registers 0 and 1, into register 2 -/
theorem du_mul {post : Int32 → St2 → Prop} {rm ra ng : Int32} {mg : Int64} {sc mo : Int32} {a1 a2 : Nat → Int32} {a3 : Nat → Int64} {c d g h : Int32}
    (e7 : a3 7 = 10000000) (ec : a1 0 = c) (ed : a1 1 = d) (eg : a2 0 = g) (eh : a2 1 = h)
    (c1 : -999 ≤ c.toInt) (c2 : c.toInt ≤ 999) (d1 : -999 ≤ d.toInt) (d2 : d.toInt ≤ 999) (g1 : -10 ≤ g.toInt) (g2 : g.toInt ≤ 10) (h1 : -10 ≤ h.toInt) (h2 : h.toInt ≤ 10)
    (hp : ∀ ra' ng' mg', post 0 (7, rm, ra', ng', mg', g + h, 0, upd a1 2 (c * d), upd a2 2 (g + h), a3)) :
    wpX_apply post (7, rm, ra, ng, mg, sc, mo, a1, a2, a3) 2 2 0 1 := by
  have w := du_sumE g1 g2 h1 h2
  have v := du_prod c1 c2 d1 d2
  have t : wX_apply_57 post 2 2 0 1 7 rm ra ng mg sc mo a1 a2 a3 := by
    have i0 : vp_in (0 : Int32) 6 := pk_in 0 6 (by omega)
    have i1 : vp_in (1 : Int32) 6 := pk_in 1 6 (by omega)
    refine ⟨i0, nm_r (e' := c.toInt64) (congrArg Int32.toInt64 ec) ⟨i1, nm_r (e' := d.toInt64) (congrArg Int32.toInt64 ed) (br_t rfl ⟨i0, i1, nm_r (e' := g + h) (by rw [← eg, ← eh]; rfl) (du_take rfl (fun ng' mg' hS => ?_))⟩)⟩⟩
    unfold wX_apply_214
    refine du_finish (V := c * d) (pk_in 2 6 (by omega)) (by rw [e7]; exact du_S7 hS v.1 v.2) w.1 w.2 (fun z => ?_) (fun z => ?_) (fun ra' ng'' => ?_)
    · rw [du_S0 hS z, du_prod32]
    · rw [du_S1 hS z, du_prod32]
    · rw [du_byte (x := g + h) (by omega) (by omega)]
      exact hp _ _ _
  unfold wpX_apply
  dsimp only
  exact br_f (by decide) (br_f (by decide) (du_isReg (by decide) (by decide) (br_f (by decide) (du_isReg (by decide) (by decide) (br_f (by decide) (du_isReg (by decide) (by decide) (br_f (by decide) (br_f (by decide) t))))))))
/-- apply SUB to registers 0 and 1 of one exponent, into register 1 -/
theorem du_subt {post : Int32 → St2 → Prop} {rm ra ng : Int32} {mg : Int64} {sc mo : Int32} {a1 a2 : Nat → Int32} {a3 : Nat → Int64} {c d g : Int32}
    (e0 : a3 0 = 1) (e7 : a3 7 = 10000000) (ec : a1 0 = c) (ed : a1 1 = d) (eg : a2 0 = g) (eh : a2 1 = g)
    (c1 : -999 ≤ c.toInt) (c2 : c.toInt ≤ 999) (d1 : -999 ≤ d.toInt) (d2 : d.toInt ≤ 999) (g1 : -10 ≤ g.toInt) (g2 : g.toInt ≤ 10)
    (hp : ∀ ra' ng' mg', post 0 (7, rm, ra', ng', mg', g, 0, upd a1 1 (c - d), upd a2 1 g, a3)) :
    wpX_apply post (7, rm, ra, ng, mg, sc, mo, a1, a2, a3) 1 1 0 1 := by
  have v := du_diff c1 c2 d1 d2
  have i0 : vp_in (0 : Int32) 6 := pk_in 0 6 (by omega)
  have i1 : vp_in (1 : Int32) 6 := pk_in 1 6 (by omega)
  have n0 : (0 : Int32).toNatClampNeg = 0 := rfl
  have n1 : (1 : Int32).toNatClampNeg = 1 := rfl
  have s : wX_apply_180 post 1 1 0 1 c.toInt64 d.toInt64 g 7 rm ra ng mg sc mo a1 a2 a3 := by
    unfold wX_apply_180
    rw [n0, eg]
    refine ⟨i0, br_t rfl ?_⟩
    unfold wX_apply_204
    rw [n1, eh]
    refine ⟨i1, du_sum e0 (by rw [e7]; exact du_c7 c2) (by rw [e7]; exact du_cn7 c1 c2) (fun ng' mg' hS => ?_)⟩
    dsimp only
    unfold wX_apply_214
    refine du_finish (V := c - d) i1 (by rw [e7]; exact du_S7 hS v.1 v.2) (by omega) (by omega) (fun z => ?_) (fun z => ?_) (fun ra' ng'' => ?_)
    · rw [du_S0 hS z, du_diff32]
    · rw [du_S1 hS z, du_diff32]
    · rw [du_byte (x := g) (by omega) (by omega)]
      exact hp _ _ _
  have t : wX_apply_57 post 1 1 0 1 7 rm ra ng mg sc mo a1 a2 a3 := by
    unfold wX_apply_57
    rw [n0, n1, ec, ed, eg, eh]
    exact ⟨i0, nm_e ⟨i1, nm_e (br_f (by decide) (br_f (by decide) ⟨i0, i1, br_t (Int32.le_refl g) ⟨i1, s⟩⟩))⟩⟩
  unfold wpX_apply
  dsimp only
  exact br_f (by decide) (br_f (by decide) (du_isReg (by decide) (by decide) (br_f (by decide) (du_isReg (by decide) (by decide) (br_f (by decide) (du_isReg (by decide) (by decide) (br_f (by decide) (br_f (by decide) t))))))))
end
section
/-- behind mode: product, difference and what is read of them -/
theorem du_tail {mc ms kc ks : Nat} {z c d g h rm ra ng : Int32} {mg : Int64} {sc mo : Int32} {a1 a2 : Nat → Int32} {a3 : Nat → Int64}
    (e0 : a3 0 = 1) (e7 : a3 7 = 10000000) (ec : a1 0 = c) (ed : a1 1 = d) (eg : a2 0 = g) (eh : a2 1 = h)
    (c1 : -999 ≤ c.toInt) (c2 : c.toInt ≤ 999) (d1 : -999 ≤ d.toInt) (d2 : d.toInt ≤ 999) (g1 : -10 ≤ g.toInt) (g2 : g.toInt ≤ 10) (h1 : -10 ≤ h.toInt) (h2 : h.toInt ≤ 10) :
    wL_lawOf_105 (fun r _ => r = 1) mc ms c d g h z z kc ks 7 rm ra ng mg sc mo a1 a2 a3 := by
  have i1 : vp_in (1 : Int32) 6 := pk_in 1 6 (by omega)
  have i2 : vp_in (2 : Int32) 6 := pk_in 2 6 (by omega)
  unfold wL_lawOf_105
  refine br_t rfl (du_mul e7 ec ed eg eh c1 c2 d1 d2 g1 g2 h1 h2 (fun ra' ng' mg' => ?_))
  refine br_t rfl (du_coef (by decide) (by decide) i2 (br_t pk_us (du_expo (by decide) (by decide) i2 (br_t pk_us ?_))))
  refine du_set (by decide) (by decide) i1 e7 d1 d2 g1 g2 (br_f (by decide) ?_)
  refine du_subt (c := c) (d := d) (g := g) e0 e7 ?_ ?_ ?_ ?_ c1 c2 d1 d2 g1 g2 (fun ra'' ng'' mg'' => ?_)
  · show upd (upd a1 2 (c * d)) 1 d 0 = c
    rw [pk_un (by omega), pk_un (by omega), ec]
  · show upd (upd a1 2 (c * d)) 1 d 1 = d
    exact pk_us
  · show upd (upd a2 2 (g + h)) 1 g 0 = g
    rw [pk_un (by omega), pk_un (by omega), eg]
  · show upd (upd a2 2 (g + h)) 1 g 1 = g
    exact pk_us
  · exact br_t rfl (du_coef (by decide) (by decide) i1 (br_t pk_us (du_expo (by decide) (by decide) i1 (br_t pk_us rfl))))
theorem du_lawOf (a b e f m : Int32) : wpL_lawOf (fun r _ => r = 1) 4 41 () a b e f m := by
  have hc := du_rem a
  have hd := du_rem b
  have hg := du_exp e
  have hh := du_exp f
  have i0 : vp_in (0 : Int32) 6 := pk_in 0 6 (by omega)
  have i1 : vp_in (1 : Int32) 6 := pk_in 1 6 (by omega)
  unfold wpL_lawOf
  refine ⟨by decide, fun c ec => ⟨by decide, fun d ed => ⟨by decide, fun g eg => ⟨by decide, fun h eh => ⟨by omega, by omega, 3, 31, by omega, by omega, ?_⟩⟩⟩⟩⟩
  rw [← ec] at hc
  rw [← ed] at hd
  rw [← eg] at hg
  rw [← eh] at hh
  refine du_init (by omega) (by omega) (fun a3 e0 e7 => ?_)
  refine du_set (by decide) (by decide) i0 e7 hc.1 hc.2 hg.1 hg.2 (br_f (by decide) ?_)
  refine du_set (by decide) (by decide) i1 e7 hd.1 hd.2 hh.1 hh.2 (br_f (by decide) ?_)
  have t : ∀ rm z : Int32, wL_lawOf_105 (fun r _ => r = 1) 4 41 c d g h z z (1 + 3) (10 + 31) 7 rm 0 0 0 0 0 (upd (upd (fun _ => 0) (0 : Int32).toNatClampNeg c) (1 : Int32).toNatClampNeg d) (upd (upd (fun _ => 0) (0 : Int32).toNatClampNeg g) (1 : Int32).toNatClampNeg h) a3 :=
    fun rm z => du_tail e0 e7 (by rw [pk_un (by decide)]; exact pk_us) pk_us (by rw [pk_un (by decide)]; exact pk_us) pk_us hc.1 hc.2 hd.1 hd.2 hg.1 hg.2 hh.1 hh.2
  have n6 : ¬ m ≤ 6 → 6 < m := fun z => by
    apply Int32.lt_iff_toInt_lt.mpr
    have z' : ¬ m.toInt ≤ (6 : Int32).toInt := fun y => z (Int32.le_iff_toInt_le.mpr y)
    omega
  have p6 : m ≤ 6 → ¬ 6 < m := fun z y => by
    have y' := Int32.lt_iff_toInt_lt.mp y
    have z' := Int32.le_iff_toInt_le.mp z
    omega
  exact br_c (fun z => br_t z (t _ 0)) (fun z => br_c (fun y => br_f z (br_f (p6 y) (t _ 1))) (fun y => br_f z (br_t (n6 y) (t _ 0))))
theorem du_cell {post : Int32 → Prop} {L : Nat} {xs : Nat → Int32} (hL : L ≤ 5) (k : Nat) (hk : k < 5) (hp : ∀ x, post x) : wpL_cellAt post L xs () (nI k) :=
  pk_le L k (fun _ => hp 0) (fun z => ⟨pk_in k L z, hp _⟩)
theorem i_vc (xs : Nat → Int32) (L : Nat) (hL : L ≤ 5) : wpL_law (fun r => r = 1) L xs := by
  unfold wpL_law
  exact du_cell hL 0 (by omega) (fun a => du_cell hL 1 (by omega) (fun b => du_cell hL 2 (by omega) (fun e => du_cell hL 3 (by omega) (fun f => du_cell hL 4 (by omega) (fun m => ⟨4, 41, by omega, by omega, du_lawOf a b e f m⟩)))))
end
