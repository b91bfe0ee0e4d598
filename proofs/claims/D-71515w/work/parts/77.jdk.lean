/-! Integer's bitCount, numberOfTrailingZeros, numberOfLeadingZeros -/
def p1 (b : Nat) : Nat := b - (b / 2 ^ 1 &&& 1431655765)
def p2 (x : Nat) : Nat := (x &&& 858993459) + (x / 2 ^ 2 &&& 858993459)
def p3 (x : Nat) : Nat := (x + x / 2 ^ 4) &&& 252645135
def p4 (x : Nat) : Nat := x + x / 2 ^ 8
def p5 (x : Nat) : Nat := x + x / 2 ^ 16
theorem pop_ok' : ∀ a, a < 64 → ∀ c, c < 64 → p5 (p4 (p3 (p2 (p1 (64 * a + c))))) &&& 63 = cnt (64 * a + c) 12 := by decide +kernel
theorem pop_ok {b : Nat} (h : b < 4096) : p5 (p4 (p3 (p2 (p1 b)))) &&& 63 = cnt b 12 := by
  have := pop_ok' (b / 64) (by omega) (b % 64) (by omega)
  rwa [show 64 * (b / 64) + b % 64 = b by omega] at this
def nlz (p : Nat) : Nat :=
  let q1 := if p < 256 then p else p / 2 ^ 8
  let q2 := if q1 < 16 then q1 else q1 / 2 ^ 4
  let q3 := if q2 < 4 then q2 else q2 / 2 ^ 2
  (if p < 256 then 0 else 8) + (if q1 < 16 then 0 else 4) + (if q2 < 4 then 0 else 2) + q3 / 2 ^ 1
theorem nlz_ok' : ∀ a, a < 64 → ∀ c, c < 64 → nlz (64 * a + c) = Nat.log2 (64 * a + c) := by decide +kernel
theorem nlz_ok {b : Nat} (h : b < 4096) : nlz b = Nat.log2 b := by
  have := nlz_ok' (b / 64) (by omega) (b % 64) (by omega)
  rwa [show 64 * (b / 64) + b % 64 = b by omega] at this
/-- the ones below the lowest zero -/
theorem ntz_mask {b k : Nat} (h1 : ∀ i, i < k → b.testBit i = true) (h2 : b.testBit k = false) : b ^^^ (b &&& (b + 1)) = 2 ^ k - 1 := by
  obtain ⟨q, hq⟩ : ∃ q, b = 2 ^ (k + 1) * q + (2 ^ k - 1) := by
    refine ⟨b / 2 ^ (k + 1), ?_⟩
    have hm : b % 2 ^ (k + 1) = 2 ^ k - 1 := by
      apply Nat.eq_of_testBit_eq
      intro i
      rw [Nat.testBit_mod_two_pow, Nat.testBit_two_pow_sub_one]
      by_cases e : i < k
      · rw [h1 i e]; simp [e]; omega
      · by_cases e2 : i = k
        · subst e2; rw [h2]; simp
        · simp [e]; omega
    have := Nat.div_add_mod b (2 ^ (k + 1))
    rw [hm] at this
    exact this.symm
  have hp : 0 < 2 ^ k := Nat.two_pow_pos k
  have hb1 : b + 1 = 2 ^ (k + 1) * q + 2 ^ k := by omega
  apply Nat.eq_of_testBit_eq
  intro i
  rw [Nat.testBit_xor, Nat.testBit_and, hb1, Nat.testBit_two_pow_sub_one]
  have hlt : 2 ^ k < 2 ^ (k + 1) := Nat.pow_lt_pow_right (by decide) (by omega)
  rw [Nat.testBit_two_pow_mul_add q hlt]
  by_cases e : i < k
  · rw [h1 i e, if_pos (by omega), Nat.testBit_two_pow]
    simp [e]
    omega
  · by_cases e2 : i = k
    · subst e2; rw [h2]; simp
    · rw [if_neg (by omega), hq, Nat.testBit_two_pow_mul_add q (by omega), if_neg (by omega)]
      simp [e]
theorem tz_a : ∀ r, r < 24 → (65536 < 2 ^ r - 1 ↔ 17 ≤ r) ∧ (256 < 2 ^ r - 1 ↔ 9 ≤ r) ∧ (16 < 2 ^ r - 1 ↔ 5 ≤ r) ∧ (4 < 2 ^ r - 1 ↔ 3 ≤ r) ∧ 2 ^ r - 1 < 16777216 := by decide
theorem tz_b : ∀ r, r < 24 → (16 ≤ r → (2 ^ r - 1) / 2 ^ 16 = 2 ^ (r - 16) - 1) ∧ (8 ≤ r → (2 ^ r - 1) / 2 ^ 8 = 2 ^ (r - 8) - 1) ∧ (4 ≤ r → (2 ^ r - 1) / 2 ^ 4 = 2 ^ (r - 4) - 1) ∧ (2 ≤ r → (2 ^ r - 1) / 2 ^ 2 = 2 ^ (r - 2) - 1) := by decide
section JD
variable {l : Launch} {E : EE}
theorem ct_bitCount (hE : EOk E) (γ : GG) {b : Nat} (hb : b < 4096) : Ct l yJ7_bitCount cJ7_bitCount 1 (some .int) E 100 16000 [.int (iI (b : Int))] γ (pI (cnt b 12 : Int) γ) 0 0 := by
  refine Ct.of hE (by decide) (Nat.le_of_ble_eq_true rfl) (fun Φ hLn hΦ F hfr hlo => ?_)
  subst hLn; subst hΦ
  have h414 := F.ok.1.2.2
  have hrc := F.rc
  have hrs := F.rs
  show Wg Φ 1 _ 0 0 0 [(0, _)] []
  refine w_rng (fun hR => ?_)
  have hpop := pop_ok hb
  have m0 : (b / 2 ^ 1 &&& 1431655765) ≤ b / 2 ^ 1 := Nat.and_le_left
  obtain ⟨x1, hx1⟩ : ∃ x, x = p1 b := ⟨_, rfl⟩
  have b1 : x1 ≤ b := by rw [hx1]; exact Nat.sub_le _ _
  have m1 : (x1 &&& 858993459) ≤ x1 := Nat.and_le_left
  have m2 : (x1 / 2 ^ 2 &&& 858993459) ≤ x1 / 2 ^ 2 := Nat.and_le_left
  obtain ⟨x2, hx2⟩ : ∃ x, x = p2 x1 := ⟨_, rfl⟩
  have b2 : x2 ≤ 2 * x1 := by rw [hx2]; unfold p2; omega
  obtain ⟨x3, hx3⟩ : ∃ x, x = p3 x2 := ⟨_, rfl⟩
  have b3 : x3 ≤ x2 + x2 / 2 ^ 4 := by rw [hx3]; exact Nat.and_le_left
  obtain ⟨x4, hx4⟩ : ∃ x, x = p4 x3 := ⟨_, rfl⟩
  have b4 : x4 ≤ 2 * x3 := by rw [hx4]; unfold p4; omega
  obtain ⟨x5, hx5⟩ : ∃ x, x = p5 x4 := ⟨_, rfl⟩
  have b5 : x5 ≤ 2 * x4 := by rw [hx5]; unfold p5; omega
  rw [← hx1, ← hx2, ← hx3, ← hx4, ← hx5] at hpop
  refine w_iload_n F dJ7_bitCount_0 rfl ?_
  refine w_iload_n F dJ7_bitCount_1 rfl ?_
  refine w_iconst F dJ7_bitCount_2 ?_
  refine w_iushr F (j := 1) (by omega) (by omega) dJ7_bitCount_3 ?_
  refine w_ldc_w F q403 dJ7_bitCount_4 ?_
  refine w_top (z' := ((1431655765 : Nat) : Int)) rfl ?_
  first | refine w_iandC F (by omega) dJ7_bitCount_7 ?_ | refine w_iand F dJ7_bitCount_7 ?_
  refine w_isub F dJ7_bitCount_8 ?_
  refine w_top (z' := (x1 : Int)) (by rw [hx1]; unfold p1; omega) ?_
  refine w_istore_n F dJ7_bitCount_9 (by decide) rfl (lv' := [(0, _)]) rfl ?_
  refine w_iload_n F dJ7_bitCount_10 rfl ?_
  refine w_ldc_w F q404 dJ7_bitCount_11 ?_
  refine w_top (z' := ((858993459 : Nat) : Int)) rfl ?_
  first | refine w_iandC F (by omega) dJ7_bitCount_14 ?_ | refine w_iand F dJ7_bitCount_14 ?_
  refine w_iload_n F dJ7_bitCount_15 rfl ?_
  refine w_iconst F dJ7_bitCount_16 ?_
  refine w_iushr F (j := 2) (by omega) (by omega) dJ7_bitCount_17 ?_
  refine w_ldc_w F q404 dJ7_bitCount_18 ?_
  refine w_top (z' := ((858993459 : Nat) : Int)) rfl ?_
  first | refine w_iandC F (by omega) dJ7_bitCount_21 ?_ | refine w_iand F dJ7_bitCount_21 ?_
  refine w_iadd F dJ7_bitCount_22 ?_
  refine w_top (z' := (x2 : Int)) (by rw [hx2]; unfold p2; omega) ?_
  refine w_istore_n F dJ7_bitCount_23 (by decide) rfl (lv' := [(0, _)]) rfl ?_
  refine w_iload_n F dJ7_bitCount_24 rfl ?_
  refine w_iload_n F dJ7_bitCount_25 rfl ?_
  refine w_iconst F dJ7_bitCount_26 ?_
  refine w_iushr F (j := 4) (by omega) (by omega) dJ7_bitCount_27 ?_
  refine w_iadd F dJ7_bitCount_28 ?_
  refine w_top (z' := ((x2 + x2 / 2 ^ 4 : Nat) : Int)) (by omega) ?_
  refine w_ldc_w F q405 dJ7_bitCount_29 ?_
  refine w_top (z' := ((252645135 : Nat) : Int)) rfl ?_
  first | refine w_iandC F (by omega) dJ7_bitCount_32 ?_ | refine w_iand F dJ7_bitCount_32 ?_
  refine w_top (z' := (x3 : Int)) (by rw [hx3]; rfl) ?_
  refine w_istore_n F dJ7_bitCount_33 (by decide) rfl (lv' := [(0, _)]) rfl ?_
  refine w_iload_n F dJ7_bitCount_34 rfl ?_
  refine w_iload_n F dJ7_bitCount_35 rfl ?_
  refine w_bipush F dJ7_bitCount_36 rfl ?_
  refine w_iushr F (j := 8) (by omega) (by omega) dJ7_bitCount_38 ?_
  refine w_iadd F dJ7_bitCount_39 ?_
  refine w_top (z' := (x4 : Int)) (by rw [hx4]; unfold p4; omega) ?_
  refine w_istore_n F dJ7_bitCount_40 (by decide) rfl (lv' := [(0, _)]) rfl ?_
  refine w_iload_n F dJ7_bitCount_41 rfl ?_
  refine w_iload_n F dJ7_bitCount_42 rfl ?_
  refine w_bipush F dJ7_bitCount_43 rfl ?_
  refine w_iushr F (j := 16) (by omega) (by omega) dJ7_bitCount_45 ?_
  refine w_iadd F dJ7_bitCount_46 ?_
  refine w_top (z' := (x5 : Int)) (by rw [hx5]; unfold p5; omega) ?_
  refine w_istore_n F dJ7_bitCount_47 (by decide) rfl (lv' := [(0, _)]) rfl ?_
  refine w_iload_n F dJ7_bitCount_48 rfl ?_
  refine w_bipush F dJ7_bitCount_49 rfl ?_
  refine w_top (z' := ((63 : Nat) : Int)) rfl ?_
  first | refine w_iandC F (by omega) dJ7_bitCount_51 ?_ | refine w_iand F dJ7_bitCount_51 ?_
  exact w_iret F (by omega) (by omega) (⟨by rw [hpop], rfl⟩) dJ7_bitCount_52
theorem ct_ntz (hE : EOk E) (γ : GG) {b k : Nat} (hb : b < 2 ^ 23) (h1 : ∀ i, i < k → b.testBit i = true) (h2 : b.testBit k = false) (hk : k < 23) : Ct l yJ7_numberOfTrailingZeros cJ7_numberOfTrailingZeros 2 (some .int) E 100 16000 [.int (iI (-(b : Int) - 1))] γ (pI (k : Int) γ) 0 0 := by
  refine Ct.of hE (by decide) (Nat.le_of_ble_eq_true rfl) (fun Φ hLn hΦ F hfr hlo => ?_)
  subst hLn; subst hΦ
  have h414 := F.ok.1.2.2
  have hrc := F.rc
  have hrs := F.rs
  show Wg Φ 2 _ 0 0 0 [(0, _)] []
  refine w_rng (fun hR => ?_)
  have hm := ntz_mask h1 h2
  have hA := tz_a k (by omega)
  have st5 : ∀ r n : Nat, 1 ≤ r → r ≤ 2 → n + r = k + 1 → Wg Φ 2 γ 0 0 74 [(0, .int (iI ((2 ^ r - 1 : Nat) : Int))), (1, .int (iI (n : Int)))] [] := by
    intro r n a1 a2 a3
    have hr := tz_a r (by omega)
    refine w_iload_n F dJ7_numberOfTrailingZeros_74 rfl ?_
    refine w_iload_n F dJ7_numberOfTrailingZeros_75 rfl ?_
    refine w_iconst F dJ7_numberOfTrailingZeros_76 ?_
    refine w_iushr F (j := 1) (by omega) (by omega) dJ7_numberOfTrailingZeros_77 ?_
    refine w_iadd F dJ7_numberOfTrailingZeros_78 ?_
    refine w_top (z' := (k : Int)) ?_ ?_
    · rcases (show r = 1 ∨ r = 2 by omega) with rfl | rfl <;> simp <;> omega
    · exact w_iret F (by omega) (by omega) (⟨rfl, rfl⟩) dJ7_numberOfTrailingZeros_79
  have st4 : ∀ r n : Nat, 1 ≤ r → r ≤ 4 → n + r = k + 1 → Wg Φ 2 γ 0 0 62 [(0, .int (iI ((2 ^ r - 1 : Nat) : Int))), (1, .int (iI (n : Int)))] [] := by
    intro r n a1 a2 a3
    have hr := tz_a r (by omega)
    have hr2 := tz_b r (by omega)
    refine w_iload_n F dJ7_numberOfTrailingZeros_62 rfl ?_
    refine w_iconst F dJ7_numberOfTrailingZeros_63 ?_
    refine w_icmp_le F (tgt := 74) dJ7_numberOfTrailingZeros_64 (by decide) (by first | assumption | exact inR0 | exact (hR _ _ _).1 | (constructor <;> omega)) (by first | assumption | exact inR0 | exact (hR _ _ _).1 | (constructor <;> omega)) (fun h => ?_) (fun h => ?_)
    · exact st5 r n a1 (by omega) a3
    · refine w_iinc F dJ7_numberOfTrailingZeros_67 rfl (by decide) rfl (lv' := [(0, _), (1, _)]) rfl ?_
      refine w_iload_n F dJ7_numberOfTrailingZeros_70 rfl ?_
      refine w_iconst F dJ7_numberOfTrailingZeros_71 ?_
      refine w_iushr F (j := 2) (by omega) (by omega) dJ7_numberOfTrailingZeros_72 ?_
      refine w_top (z' := ((2 ^ (r - 2) - 1 : Nat) : Int)) (by rw [hr2.2.2.2 (by omega)]) ?_
      refine w_istore_n F dJ7_numberOfTrailingZeros_73 (by decide) rfl (lv' := [(0, _), (1, _)]) rfl ?_
      exact st5 (r - 2) (n + 2) (by omega) (by omega) (by omega)
  have st3 : ∀ r n : Nat, 1 ≤ r → r ≤ 8 → n + r = k + 1 → Wg Φ 2 γ 0 0 49 [(0, .int (iI ((2 ^ r - 1 : Nat) : Int))), (1, .int (iI (n : Int)))] [] := by
    intro r n a1 a2 a3
    have hr := tz_a r (by omega)
    have hr2 := tz_b r (by omega)
    refine w_iload_n F dJ7_numberOfTrailingZeros_49 rfl ?_
    refine w_bipush F dJ7_numberOfTrailingZeros_50 rfl ?_
    refine w_icmp_le F (tgt := 62) dJ7_numberOfTrailingZeros_52 (by decide) (by first | assumption | exact inR0 | exact (hR _ _ _).1 | (constructor <;> omega)) (by first | assumption | exact inR0 | exact (hR _ _ _).1 | (constructor <;> omega)) (fun h => ?_) (fun h => ?_)
    · exact st4 r n a1 (by omega) a3
    · refine w_iinc F dJ7_numberOfTrailingZeros_55 rfl (by decide) rfl (lv' := [(0, _), (1, _)]) rfl ?_
      refine w_iload_n F dJ7_numberOfTrailingZeros_58 rfl ?_
      refine w_iconst F dJ7_numberOfTrailingZeros_59 ?_
      refine w_iushr F (j := 4) (by omega) (by omega) dJ7_numberOfTrailingZeros_60 ?_
      refine w_top (z' := ((2 ^ (r - 4) - 1 : Nat) : Int)) (by rw [hr2.2.2.1 (by omega)]) ?_
      refine w_istore_n F dJ7_numberOfTrailingZeros_61 (by decide) rfl (lv' := [(0, _), (1, _)]) rfl ?_
      exact st4 (r - 4) (n + 4) (by omega) (by omega) (by omega)
  have st2 : ∀ r n : Nat, 1 ≤ r → r ≤ 16 → n + r = k + 1 → Wg Φ 2 γ 0 0 34 [(0, .int (iI ((2 ^ r - 1 : Nat) : Int))), (1, .int (iI (n : Int)))] [] := by
    intro r n a1 a2 a3
    have hr := tz_a r (by omega)
    have hr2 := tz_b r (by omega)
    refine w_iload_n F dJ7_numberOfTrailingZeros_34 rfl ?_
    refine w_sipush F dJ7_numberOfTrailingZeros_35 rfl ?_
    refine w_icmp_le F (tgt := 49) dJ7_numberOfTrailingZeros_38 (by decide) (by first | assumption | exact inR0 | exact (hR _ _ _).1 | (constructor <;> omega)) (by first | assumption | exact inR0 | exact (hR _ _ _).1 | (constructor <;> omega)) (fun h => ?_) (fun h => ?_)
    · exact st3 r n a1 (by omega) a3
    · refine w_iinc F dJ7_numberOfTrailingZeros_41 rfl (by decide) rfl (lv' := [(0, _), (1, _)]) rfl ?_
      refine w_iload_n F dJ7_numberOfTrailingZeros_44 rfl ?_
      refine w_bipush F dJ7_numberOfTrailingZeros_45 rfl ?_
      refine w_iushr F (j := 8) (by omega) (by omega) dJ7_numberOfTrailingZeros_47 ?_
      refine w_top (z' := ((2 ^ (r - 8) - 1 : Nat) : Int)) (by rw [hr2.2.1 (by omega)]) ?_
      refine w_istore_n F dJ7_numberOfTrailingZeros_48 (by decide) rfl (lv' := [(0, _), (1, _)]) rfl ?_
      exact st3 (r - 8) (n + 8) (by omega) (by omega) (by omega)
  refine w_iload_n F dJ7_numberOfTrailingZeros_0 rfl ?_
  refine w_iconst F dJ7_numberOfTrailingZeros_1 ?_
  first | refine w_inot F dJ7_numberOfTrailingZeros_2 ?_ | refine w_ixorN F dJ7_numberOfTrailingZeros_2 ?_
  refine w_top (z' := (b : Int)) (by omega) ?_
  refine w_iload_n F dJ7_numberOfTrailingZeros_3 rfl ?_
  refine w_iconst F dJ7_numberOfTrailingZeros_4 ?_
  refine w_isub F dJ7_numberOfTrailingZeros_5 ?_
  refine w_top (z' := -((b + 1 : Nat) : Int) - 1) (by omega) ?_
  first | refine w_iandC F (by omega) dJ7_numberOfTrailingZeros_6 ?_ | refine w_iand F dJ7_numberOfTrailingZeros_6 ?_
  refine w_top (z' := ((2 ^ k - 1 : Nat) : Int)) (by rw [hm]) ?_
  refine w_istore_n F dJ7_numberOfTrailingZeros_7 (by decide) rfl (lv' := [(0, _)]) rfl ?_
  refine w_iload_n F dJ7_numberOfTrailingZeros_8 rfl ?_
  refine w_if_gt F (tgt := 17) dJ7_numberOfTrailingZeros_9 (by decide) (by first | assumption | exact inR0 | exact (hR _ _ _).1 | (constructor <;> omega)) (fun h => ?_) (fun h => ?_)
  · have hk0 : 1 ≤ k := by
      rcases Nat.eq_zero_or_pos k with e | e
      · subst e; simp at h
      · exact e
    refine w_iconst F dJ7_numberOfTrailingZeros_17 ?_
    refine w_istore_n F dJ7_numberOfTrailingZeros_18 (by decide) rfl (lv' := [(0, _), (1, _)]) rfl ?_
    refine w_iload_n F dJ7_numberOfTrailingZeros_19 rfl ?_
    refine w_ldc_w F q417 dJ7_numberOfTrailingZeros_20 ?_
    refine w_top (z' := 65536) rfl ?_
    refine w_icmp_le F (tgt := 34) dJ7_numberOfTrailingZeros_23 (by decide) (by first | assumption | exact inR0 | exact (hR _ _ _).1 | (constructor <;> omega)) (by first | assumption | exact inR0 | exact (hR _ _ _).1 | (constructor <;> omega)) (fun h3 => ?_) (fun h3 => ?_)
    · exact st2 k 1 hk0 (by omega) (by omega)
    · have hr2 := tz_b k (by omega)
      refine w_iinc F dJ7_numberOfTrailingZeros_26 rfl (by decide) rfl (lv' := [(0, _), (1, _)]) rfl ?_
      refine w_iload_n F dJ7_numberOfTrailingZeros_29 rfl ?_
      refine w_bipush F dJ7_numberOfTrailingZeros_30 rfl ?_
      refine w_iushr F (j := 16) (by omega) (by omega) dJ7_numberOfTrailingZeros_32 ?_
      refine w_top (z' := ((2 ^ (k - 16) - 1 : Nat) : Int)) (by rw [hr2.1 (by omega)]) ?_
      refine w_istore_n F dJ7_numberOfTrailingZeros_33 (by decide) rfl (lv' := [(0, _), (1, _)]) rfl ?_
      exact st2 (k - 16) 17 (by omega) (by omega) (by omega)
  · have hk0 : k = 0 := by
      rcases Nat.eq_zero_or_pos k with e | e
      · exact e
      · have := Nat.pow_le_pow_right (n := 2) (by decide) e
        omega
    subst hk0
    refine w_iload_n F dJ7_numberOfTrailingZeros_12 rfl ?_
    refine w_bipush F dJ7_numberOfTrailingZeros_13 rfl ?_
    first | refine w_iandC F (by omega) dJ7_numberOfTrailingZeros_15 ?_ | refine w_iand F dJ7_numberOfTrailingZeros_15 ?_
    refine w_top (z' := ((0 : Nat) : Int)) (by rfl) ?_
    exact w_iret F (by omega) (by omega) (⟨rfl, rfl⟩) dJ7_numberOfTrailingZeros_16
theorem ct_nlz (hE : EOk E) (γ : GG) {p : Nat} (hp : 1 ≤ p) (hp2 : p ≤ 4095) : Ct l yJ7_numberOfLeadingZeros cJ7_numberOfLeadingZeros 2 (some .int) E 100 16000 [.int (iI (p : Int))] γ (pI (31 - (Nat.log2 p : Int)) γ) 0 0 := by
  refine Ct.of hE (by decide) (Nat.le_of_ble_eq_true rfl) (fun Φ hLn hΦ F hfr hlo => ?_)
  subst hLn; subst hΦ
  have h414 := F.ok.1.2.2
  have hrc := F.rc
  have hrs := F.rs
  show Wg Φ 2 _ 0 0 0 [(0, _)] []
  refine w_rng (fun hR => ?_)
  have hok := nlz_ok (b := p) (by omega)
  unfold nlz at hok
  simp only at hok
  have st5 : ∀ q n : Nat, q < 4 → n ≤ 31 → (31 - (n : Int)) + ((q / 2 ^ 1 : Nat) : Int) = (Nat.log2 p : Int) → Wg Φ 2 γ 0 0 73 [(0, .int (iI (q : Int))), (1, .int (iI (n : Int)))] [] := by
    intro q n a1 a2 a3
    refine w_iload_n F dJ7_numberOfLeadingZeros_73 rfl ?_
    refine w_iload_n F dJ7_numberOfLeadingZeros_74 rfl ?_
    refine w_iconst F dJ7_numberOfLeadingZeros_75 ?_
    refine w_iushr F (j := 1) (by omega) (by omega) dJ7_numberOfLeadingZeros_76 ?_
    refine w_isub F dJ7_numberOfLeadingZeros_77 ?_
    refine w_top (z' := 31 - (Nat.log2 p : Int)) (by omega) ?_
    exact w_iret F (by omega) (by omega) (⟨rfl, rfl⟩) dJ7_numberOfLeadingZeros_78
  have st4 : ∀ q n : Nat, q < 16 → n ≤ 31 → 2 ≤ n → (31 - (n : Int)) + (if q < 4 then (0 : Nat) else 2 : Nat) + (((if q < 4 then q else q / 2 ^ 2) / 2 ^ 1 : Nat) : Int) = (Nat.log2 p : Int) → Wg Φ 2 γ 0 0 61 [(0, .int (iI (q : Int))), (1, .int (iI (n : Int)))] [] := by
    intro q n a1 a2 a4 a3
    refine w_iload_n F dJ7_numberOfLeadingZeros_61 rfl ?_
    refine w_iconst F dJ7_numberOfLeadingZeros_62 ?_
    refine w_icmp_lt F (tgt := 73) dJ7_numberOfLeadingZeros_63 (by decide) (by first | assumption | exact inR0 | exact (hR _ _ _).1 | (constructor <;> omega)) (by first | assumption | exact inR0 | exact (hR _ _ _).1 | (constructor <;> omega)) (fun h => ?_) (fun h => ?_)
    · rw [if_pos (by omega), if_pos (by omega)] at a3
      exact st5 q n (by omega) a2 (by omega)
    · rw [if_neg (by omega), if_neg (by omega)] at a3
      refine w_iinc F dJ7_numberOfLeadingZeros_66 rfl (by decide) rfl (lv' := [(0, _), (1, _)]) rfl ?_
      refine w_iload_n F dJ7_numberOfLeadingZeros_69 rfl ?_
      refine w_iconst F dJ7_numberOfLeadingZeros_70 ?_
      refine w_iushr F (j := 2) (by omega) (by omega) dJ7_numberOfLeadingZeros_71 ?_
      refine w_istore_n F dJ7_numberOfLeadingZeros_72 (by decide) rfl (lv' := [(0, _), (1, _)]) rfl ?_
      have e := st5 (q / 2 ^ 2) (n - 2) (by omega) (by omega) (by omega)
      rw [show ((n - 2 : Nat) : Int) = (n : Int) + -2 by omega] at e
      exact e
  have st3 : ∀ q n : Nat, q < 256 → n ≤ 31 → 6 ≤ n → (31 - (n : Int)) + (if q < 16 then (0 : Nat) else 4 : Nat) + (if (if q < 16 then q else q / 2 ^ 4) < 4 then (0 : Nat) else 2 : Nat) + (((if (if q < 16 then q else q / 2 ^ 4) < 4 then (if q < 16 then q else q / 2 ^ 4) else (if q < 16 then q else q / 2 ^ 4) / 2 ^ 2) / 2 ^ 1 : Nat) : Int) = (Nat.log2 p : Int) → Wg Φ 2 γ 0 0 48 [(0, .int (iI (q : Int))), (1, .int (iI (n : Int)))] [] := by
    intro q n a1 a2 a4 a3
    refine w_iload_n F dJ7_numberOfLeadingZeros_48 rfl ?_
    refine w_bipush F dJ7_numberOfLeadingZeros_49 rfl ?_
    refine w_icmp_lt F (tgt := 61) dJ7_numberOfLeadingZeros_51 (by decide) (by first | assumption | exact inR0 | exact (hR _ _ _).1 | (constructor <;> omega)) (by first | assumption | exact inR0 | exact (hR _ _ _).1 | (constructor <;> omega)) (fun h => ?_) (fun h => ?_)
    · simp only [if_pos (show q < 16 by omega)] at a3
      exact st4 q n (by omega) a2 (by omega) (by omega)
    · simp only [if_neg (show ¬ q < 16 by omega)] at a3
      refine w_iinc F dJ7_numberOfLeadingZeros_54 rfl (by decide) rfl (lv' := [(0, _), (1, _)]) rfl ?_
      refine w_iload_n F dJ7_numberOfLeadingZeros_57 rfl ?_
      refine w_iconst F dJ7_numberOfLeadingZeros_58 ?_
      refine w_iushr F (j := 4) (by omega) (by omega) dJ7_numberOfLeadingZeros_59 ?_
      refine w_istore_n F dJ7_numberOfLeadingZeros_60 (by decide) rfl (lv' := [(0, _), (1, _)]) rfl ?_
      have e := st4 (q / 2 ^ 4) (n - 4) (by omega) (by omega) (by omega) (by omega)
      rw [show ((n - 4 : Nat) : Int) = (n : Int) + -4 by omega] at e
      exact e
  refine w_iload_n F dJ7_numberOfLeadingZeros_0 rfl ?_
  refine w_if_gt F (tgt := 15) dJ7_numberOfLeadingZeros_1 (by decide) (by first | assumption | exact inR0 | exact (hR _ _ _).1 | (constructor <;> omega)) (fun h => ?_) (fun h => ?_)
  · refine w_bipush F dJ7_numberOfLeadingZeros_15 rfl ?_
    refine w_istore_n F dJ7_numberOfLeadingZeros_17 (by decide) rfl (lv' := [(0, _), (1, _)]) rfl ?_
    refine w_iload_n F dJ7_numberOfLeadingZeros_18 rfl ?_
    refine w_ldc_w F q417 dJ7_numberOfLeadingZeros_19 ?_
    refine w_top (z' := 65536) rfl ?_
    refine w_icmp_lt F (tgt := 33) dJ7_numberOfLeadingZeros_22 (by decide) (by first | assumption | exact inR0 | exact (hR _ _ _).1 | (constructor <;> omega)) (by first | assumption | exact inR0 | exact (hR _ _ _).1 | (constructor <;> omega)) (fun h2 => ?_) (fun h2 => ?_)
    · refine w_iload_n F dJ7_numberOfLeadingZeros_33 rfl ?_
      refine w_sipush F dJ7_numberOfLeadingZeros_34 rfl ?_
      refine w_icmp_lt F (tgt := 48) dJ7_numberOfLeadingZeros_37 (by decide) (by first | assumption | exact inR0 | exact (hR _ _ _).1 | (constructor <;> omega)) (by first | assumption | exact inR0 | exact (hR _ _ _).1 | (constructor <;> omega)) (fun h3 => ?_) (fun h3 => ?_)
      · simp only [if_pos (show p < 256 by omega)] at hok
        exact st3 p 31 (by omega) (by omega) (by omega) (by omega)
      · simp only [if_neg (show ¬ p < 256 by omega)] at hok
        refine w_iinc F dJ7_numberOfLeadingZeros_40 rfl (by decide) rfl (lv' := [(0, _), (1, _)]) rfl ?_
        refine w_iload_n F dJ7_numberOfLeadingZeros_43 rfl ?_
        refine w_bipush F dJ7_numberOfLeadingZeros_44 rfl ?_
        refine w_iushr F (j := 8) (by omega) (by omega) dJ7_numberOfLeadingZeros_46 ?_
        refine w_istore_n F dJ7_numberOfLeadingZeros_47 (by decide) rfl (lv' := [(0, _), (1, _)]) rfl ?_
        exact st3 (p / 2 ^ 8) 23 (by omega) (by omega) (by omega) (by omega)
    · omega
  · omega
end JD
