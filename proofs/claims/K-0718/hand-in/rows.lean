section
/-! numbers: a few rows of kit/rows (pk_..), then those of this claim (am_..) -/
theorem pk_uLs {f : Nat → Int64} {k : Nat} {x : Int64} : vp_updL f k x k = x := if_pos rfl
theorem pk_uLn {f : Nat → Int64} {k j : Nat} {x : Int64} (h : j ≠ k) : vp_updL f k x j = f j := if_neg h
theorem pk_lT {n : Nat} (h : n < 2 ^ 63) : (lN n).toInt = (n : Int) := lg_ofNat_toInt h
theorem pk_lLE {a b : Nat} (ha : a < 2 ^ 63) (hb : b < 2 ^ 63) : lN a ≤ lN b ↔ a ≤ b := by
  rw [Int64.le_iff_toInt_le, pk_lT ha, pk_lT hb]; omega
theorem pk_lEQ {a b : Nat} (ha : a < 2 ^ 63) (hb : b < 2 ^ 63) : lN a = lN b ↔ a = b := by
  rw [← Int64.toInt_inj, pk_lT ha, pk_lT hb]; omega
theorem pk_lDiv {a b : Nat} (ha : a < 2 ^ 63) (h0 : 0 < b) (hb : b < 2 ^ 63) : lN a / lN b = lN (a / b) := by
  apply Int64.toInt_inj.mp
  rw [lg_ldiv_nonneg (by rw [pk_lT ha]; omega) (by rw [pk_lT hb]; omega), pk_lT ha, pk_lT hb, pk_lT (Nat.lt_of_le_of_lt (Nat.div_le_self a b) ha)]
  rfl
/-- a long that is a natural from 1 to the greatest int: what the pool's first reserve is at every turn -/
def am_P (s : Int64) : Prop := ∃ a : Nat, 0 < a ∧ a < 2 ^ 31 ∧ s = lN a
theorem am_1000 : am_P 1000 := ⟨1000, by decide, by decide, rfl⟩
theorem am_M : am_P 1000000 := ⟨1000000, by decide, by decide, rfl⟩
/-- an int from 1 on, widened -/
theorem am_of {p : Int32} (h : 1 ≤ p) : am_P p.toInt64 := by
  have h0 : ¬ p < 0 := by
    rw [Int32.le_iff_toInt_le] at h
    rw [Int32.lt_iff_toInt_lt]
    have e1 : (1 : Int32).toInt = 1 := by decide
    have e0 : (0 : Int32).toInt = 0 := by decide
    omega
  obtain ⟨j, hj, rfl⟩ := nI_of h0
  refine ⟨j, ?_, hj, nI_l hj⟩
  rw [Int32.le_iff_toInt_le, nI_toInt hj] at h
  have e1 : (1 : Int32).toInt = 1 := by decide
  omega
/-- X compares the widened seed, Y the seed -/
theorem am_lo (x : Int32) : (1000 : Int64) ≤ x.toInt64 ↔ (1000 : Int32) ≤ x := by
  rw [Int64.le_iff_toInt_le, Int32.le_iff_toInt_le, Int32.toInt_toInt64]
  have e1 : (1000 : Int64).toInt = 1000 := by decide
  have e2 : (1000 : Int32).toInt = 1000 := by decide
  rw [e1, e2]
theorem am_hi (x : Int32) : x.toInt64 ≤ (1000000 : Int64) ↔ x ≤ (1000000 : Int32) := by
  rw [Int64.le_iff_toInt_le, Int32.le_iff_toInt_le, Int32.toInt_toInt64]
  have e1 : (1000000 : Int64).toInt = 1000000 := by decide
  have e2 : (1000000 : Int32).toInt = 1000000 := by decide
  rw [e1, e2]
/-- the first divisor: a reserve is not 0 -/
theorem am_ne {s : Int64} (h : am_P s) : ¬ s = 0 := by
  obtain ⟨a, a0, a1, rfl⟩ := h
  intro z
  have z' : lN a = lN 0 := z
  rw [pk_lEQ (by omega) (by omega)] at z'
  omega
/-- the second divisor: reserve and net amount together are not 0 -/
theorem am_net {s d : Int64} (h : am_P s) (hd : am_P d) : ¬ s + d * 9970 / 10000 = 0 := by
  obtain ⟨a, a0, a1, rfl⟩ := h
  obtain ⟨b, b0, b1, rfl⟩ := hd
  have e : lN b * 9970 / 10000 = lN (b * 9970 / 10000) := by
    show lN b * lN 9970 / lN 10000 = _
    rw [lN_mul, pk_lDiv (by omega) (by omega) (by omega)]
  rw [e, lN_add]
  intro z
  have z' : lN (a + b * 9970 / 10000) = lN 0 := z
  rw [pk_lEQ (by omega) (by omega)] at z'
  omega
/-- what the guard lets in stays a reserve -/
theorem am_add {s d : Int64} (h : am_P s) (hd : am_P d) (hg : s + d ≤ 2147483647) : am_P (s + d) := by
  obtain ⟨a, a0, a1, rfl⟩ := h
  obtain ⟨b, b0, b1, rfl⟩ := hd
  rw [lN_add] at hg ⊢
  have g' : lN (a + b) ≤ lN 2147483647 := hg
  rw [pk_lLE (by omega) (by omega)] at g'
  exact ⟨a + b, by omega, by omega, rfl⟩
end
section
/-- the reference's two cells are the component's two fields, and the first is from 1 to the greatest int (so no divisor is 0) -/
def i_Rel (_ : Nat) (u : SX) (v : SY) : Prop := u = (v 0, v 1) ∧ am_P (v 0)
theorem i_up {k : Nat} {u : SX} {v : SY} (h : i_Rel k u v) : i_Rel (k + 2) u v := h
theorem am_new {k : Nat} {s : Int64} (h : am_P s) : i_Rel k (s, s) (vp_updL (vp_updL (fun _ => 0) 1 s) 0 s) := ⟨rfl, h⟩
theorem am_put {k : Nat} {v : SY} {s t : Int64} (h : am_P s) : i_Rel k (s, t) (vp_updL (vp_updL v 0 s) 1 t) := ⟨rfl, h⟩
theorem i_vc0 (k0 : Int32) : wpX_init (fun u => wpY_init (fun v => i_Rel 1 u v) k0) k0 := by
  by_cases h1 : (1000 : Int32) ≤ k0
  · have hp : am_P k0.toInt64 := am_of (Int32.le_trans (by decide) h1)
    by_cases h2 : k0 ≤ (1000000 : Int32)
    · exact br_t ((am_lo k0).mpr h1) (br_t ((am_hi k0).mpr h2) (br_t h1 (br_t h2 (nm_e (nm_e (am_new hp))))))
    · exact br_t ((am_lo k0).mpr h1) (br_f (fun z => h2 ((am_hi k0).mp z)) (br_t h1 (br_f h2 (nm_e (nm_e (am_new am_M))))))
  · exact br_f (fun z => h1 ((am_lo k0).mp z)) (br_t (by decide) (br_f h1 (nm_e (nm_e (am_new am_1000)))))
theorem i_vc_swapXforY {k : Nat} {u : SX} {v : SY} (I : i_Rel k u v) (hk : k + 2 ≤ 1025) (v1 : Int32) : wpX_swapXforY (fun r u' => wpY_swapXforY (fun r' v' => r' = r ∧ i_Rel (k + 2) u' v') v v1) u v1 := by
  obtain ⟨rfl, hp⟩ := I
  by_cases h1 : 1 ≤ v1
  · have hd : am_P v1.toInt64 := am_of h1
    by_cases h2 : v 0 + v1.toInt64 ≤ 2147483647
    · refine br_t h1 (br_t h2 (And.intro (by decide) (nm_e (And.intro (am_net hp hd) (nm_e ?_)))))
      by_cases h3 : v 1 * (v1.toInt64 * 9970 / 10000) / (v 0 + v1.toInt64 * 9970 / 10000) = 0
      · refine br_t h3 ?_
        exact br_t h1 (br_t h2 (And.intro (by decide) (nm_e (And.intro (am_net hp hd) (nm_e (br_t h3 ⟨rfl, rfl, hp⟩))))))
      · refine br_f h3 (nm_e (nm_e ?_))
        exact br_t h1 (br_t h2 (And.intro (by decide) (nm_e (And.intro (am_net hp hd) (nm_e (br_f h3 (nm_e (nm_e ⟨rfl, am_put (am_add hp hd h2)⟩))))))))
    · exact br_t h1 (br_f h2 (br_t h1 (br_f h2 ⟨rfl, rfl, hp⟩)))
  · exact br_f h1 (br_f h1 ⟨rfl, rfl, hp⟩)
theorem i_vc_addBoth {k : Nat} {u : SX} {v : SY} (I : i_Rel k u v) (hk : k + 2 ≤ 1025) (v1 : Int32) : wpX_addBoth (fun r u' => wpY_addBoth (fun r' v' => r' = r ∧ i_Rel (k + 2) u' v') v v1) u v1 := by
  obtain ⟨rfl, hp⟩ := I
  by_cases h1 : 1 ≤ v1
  · have hd : am_P v1.toInt64 := am_of h1
    by_cases h2 : v 0 + v1.toInt64 ≤ 2147483647
    · refine br_t h1 (br_t h2 (And.intro (am_ne hp) (nm_e ?_)))
      by_cases h3 : v 1 * v1.toInt64 / v 0 = 0
      · refine br_t h3 ?_
        exact br_t h1 (br_t h2 (And.intro (am_ne hp) (nm_e (br_t h3 ⟨rfl, rfl, hp⟩))))
      · by_cases h4 : v 1 + v 1 * v1.toInt64 / v 0 ≤ 2147483647
        · refine br_f h3 (br_t h4 (nm_e (nm_e ?_)))
          exact br_t h1 (br_t h2 (And.intro (am_ne hp) (nm_e (br_f h3 (br_t h4 (nm_e (nm_e ⟨rfl, am_put (am_add hp hd h2)⟩)))))))
        · refine br_f h3 (br_f h4 ?_)
          exact br_t h1 (br_t h2 (And.intro (am_ne hp) (nm_e (br_f h3 (br_f h4 ⟨rfl, rfl, hp⟩)))))
    · exact br_t h1 (br_f h2 (br_t h1 (br_f h2 ⟨rfl, rfl, hp⟩)))
  · exact br_f h1 (br_f h1 ⟨rfl, rfl, hp⟩)
theorem i_vc_reserve {k : Nat} {u : SX} {v : SY} (I : i_Rel k u v) (hk : k + 2 ≤ 1025) (v1 : Int32) : wpX_reserve (fun r => wpY_reserve (fun r' => r' = r ∧ i_Rel (k + 2) u v) v v1) u v1 := by
  obtain ⟨rfl, hp⟩ := I
  by_cases h1 : v1 = 0
  · exact br_t h1 (br_t h1 ⟨rfl, rfl, hp⟩)
  · exact br_f h1 (br_f h1 ⟨rfl, rfl, hp⟩)
theorem i_vc_kHigh {k : Nat} {u : SX} {v : SY} (I : i_Rel k u v) (hk : k + 2 ≤ 1025) : wpX_kHigh (fun r => wpY_kHigh (fun r' => r' = r ∧ i_Rel (k + 2) u v) v) u := by
  obtain ⟨rfl, hp⟩ := I
  exact And.intro rfl ⟨rfl, hp⟩
end
