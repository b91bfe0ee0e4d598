/-! DeadlineTree: small acts -/
theorem cmp3 (a b : Int) : ∃ z : Int, z = (if a < b then -1 else if a = b then 0 else 1) ∧ (z < 0 ↔ a < b) ∧ (0 < z ↔ b < a) ∧ InR z := by
  refine ⟨_, rfl, ?_, ?_, ?_⟩
  · split
    · simp; omega
    · split
      · simp; omega
      · simp; omega
  · split
    · simp; omega
    · split
      · simp; omega
      · simp; omega
  · split
    · decide
    · split <;> decide
section D1
variable {l : Launch} {E : EE}
theorem ct_isIn (hE : EOk E) (γ : GG) {a b c : Int} (ha : InR a) (hb : InR b) (hc : InR c) : Ct l yX0_isIn cX0_isIn 6 (some .boolean) E 100 16000 [.long (lI a), .long (lI b), .long (lI c)] γ (pI (b2i (b ≤ a ∧ a ≤ c)) γ) 0 0 := by
  refine Ct.of hE (by decide) (Nat.le_of_ble_eq_true rfl) (fun Φ hLn hΦ F hfr hlo => ?_)
  subst hLn; subst hΦ
  have h414 := F.ok.1.2.2
  have hrc := F.rc
  have hrs := F.rs
  show Wg Φ 6 _ 0 0 0 [(0, _), (2, _), (4, _)] []
  refine w_rng (fun hR => ?_)
  obtain ⟨z, z1, z2, z3, z4⟩ := cmp3 a b
  obtain ⟨y, y1, y2, y3, y4⟩ := cmp3 a c
  have hz := b2i_01 (b ≤ a ∧ a ≤ c)
  refine w_lload_n F dX0_isIn_0 rfl ?_
  refine w_lload_n F dX0_isIn_1 rfl ?_
  refine w_lcmp F dX0_isIn_2 (by constructor <;> omega) (by constructor <;> omega) ?_
  rw [← z1]
  refine w_if_lt F (tgt := 17) dX0_isIn_3 (by decide) z4 (fun h => ?_) (fun h => ?_)
  · refine w_iconst F dX0_isIn_17 ?_
    refine w_top (z' := b2i (b ≤ a ∧ a ≤ c)) (b2i_f (by omega)).symm ?_
    exact w_zret F (by first | exact Or.inl rfl | exact Or.inr rfl | assumption | omega) (by omega) (by omega) (⟨rfl, rfl⟩) dX0_isIn_18
  · refine w_lload_n F dX0_isIn_6 rfl ?_
    refine w_lload F dX0_isIn_7 rfl ?_
    refine w_lcmp F dX0_isIn_9 (by constructor <;> omega) (by constructor <;> omega) ?_
    rw [← y1]
    refine w_if_gt F (tgt := 17) dX0_isIn_10 (by decide) y4 (fun h2 => ?_) (fun h2 => ?_)
    · refine w_iconst F dX0_isIn_17 ?_
      refine w_top (z' := b2i (b ≤ a ∧ a ≤ c)) (b2i_f (by omega)).symm ?_
      exact w_zret F (by first | exact Or.inl rfl | exact Or.inr rfl | assumption | omega) (by omega) (by omega) (⟨rfl, rfl⟩) dX0_isIn_18
    · refine w_iconst F dX0_isIn_13 ?_
      refine w_goto F (tgt := 18) dX0_isIn_14 (by decide) ?_
      refine w_top (z' := b2i (b ≤ a ∧ a ≤ c)) (b2i_t (by omega)).symm ?_
      exact w_zret F (by first | exact Or.inl rfl | exact Or.inr rfl | assumption | omega) (by omega) (by omega) (⟨rfl, rfl⟩) dX0_isIn_18
theorem ct_hasD (hE : EOk E) (γ : GG) {a j : Nat} (ha : a < 2 ^ 31) (hj : j < 31) : Ct l yX0_has cX0_has 2 (some .boolean) E 100 16000 [.int (iI (a : Int)), .int (iI (j : Int))] γ (pI (b2i (a.testBit j = true)) γ) 0 0 := by
  refine Ct.of hE (by decide) (Nat.le_of_ble_eq_true rfl) (fun Φ hLn hΦ F hfr hlo => ?_)
  subst hLn; subst hΦ
  have h414 := F.ok.1.2.2
  have hrc := F.rc
  have hrs := F.rs
  show Wg Φ 2 _ 0 0 0 [(0, _), (1, _)] []
  refine w_rng (fun hR => ?_)
  refine w_iload_n F dX0_has_0 rfl ?_
  refine w_iload_n F dX0_has_1 rfl ?_
  refine w_ishr F (by omega) (by omega) dX0_has_2 ?_
  refine w_iconst F dX0_has_3 ?_
  first | refine w_iandC F (by omega) dX0_has_4 ?_ | refine w_iand F dX0_has_4 ?_
  refine w_iconst F dX0_has_5 ?_
  have hb : ((a / 2 ^ j &&& 1 : Nat) : Int) = ((a.testBit j).toNat : Int) := by rw [tb_and1]
  refine w_icmp_ne F (tgt := 13) dX0_has_6 (by decide) (by rw [hb]; cases a.testBit j <;> decide) (by first | assumption | exact inR0 | exact (hR _ _ _).1 | (constructor <;> omega)) (fun h => ?_) (fun h => ?_)
  · refine w_iconst F dX0_has_13 ?_
    exact w_zret F (by first | exact Or.inl rfl | exact Or.inr rfl | assumption | omega) (by omega) (by omega) (⟨by rw [b2i_f (fun q => h (by rw [hb, q]; rfl))], rfl⟩) dX0_has_14
  · refine w_iconst F dX0_has_9 ?_
    refine w_goto F (tgt := 14) dX0_has_10 (by decide) ?_
    exact w_zret F (by first | exact Or.inl rfl | exact Or.inr rfl | assumption | omega) (by omega) (by omega) (⟨by rw [b2i_t (by rw [hb] at h; revert h; cases a.testBit j <;> decide)], rfl⟩) dX0_has_14
theorem ct_isJobD (hE : EOk E) (γ : GG) {b : Nat} (hb : γ 3 0 0 = (b : Int)) (hb2 : b < 4096) {j : Int} (hj : InR j) : Ct l yX0_isJob cX0_isJob 2 (some .boolean) E 200 20000 [.ref (E.ad 0), .int (iI j)] γ (pI (b2i (0 ≤ j ∧ j ≤ 11 ∧ b.testBit j.toNat = true)) γ) 0 0 := by
  refine Ct.of hE (by decide) (Nat.le_of_ble_eq_true rfl) (fun Φ hLn hΦ F hfr hlo => ?_)
  subst hLn; subst hΦ
  have h414 := F.ok.1.2.2
  have hrc := F.rc
  have hrs := F.rs
  show Wg Φ 2 _ 0 0 0 [(0, _), (1, _)] []
  refine w_rng (fun hR => ?_)
  refine w_iload_n F dX0_isJob_0 rfl ?_
  refine w_i2l F dX0_isJob_1 (by first | assumption | exact inR0 | exact (hR _ _ _).1 | (constructor <;> omega)) ?_
  refine w_lconst F dX0_isJob_2 ?_
  refine w_topL (z' := 0) rfl ?_
  refine w_ldc2 F q604 dX0_isJob_3 ?_
  refine w_topL (z' := 11) rfl ?_
  refine w_callS F (As := [_, _, _]) (ct_isIn hE γ hj inR0 (by decide)) (lw_S q279 q280 q70 q281) md_X0_isIn rfl rfl (Nat.le_of_ble_eq_true rfl) dX0_isJob_6 ⟨by omega, by omega⟩ ⟨by omega, by omega⟩ ?_
  rintro _ _ ⟨rfl, rfl⟩
  refine w_if_eq F (tgt := 30) dX0_isJob_9 (by decide) (b2i_R _) (fun h => ?_) (fun h => ?_)
  · rw [b2i_0] at h
    refine w_iconst F dX0_isJob_30 ?_
    exact w_zret F (by first | exact Or.inl rfl | exact Or.inr rfl | assumption | omega) (by omega) (by omega) (⟨by rw [b2i_f (by omega)], rfl⟩) dX0_isJob_31
  · rw [b2i_n0] at h
    obtain ⟨i, rfl⟩ : ∃ i : Nat, j = (i : Int) := ⟨j.toNat, by omega⟩
    refine w_aload_n F dX0_isJob_12 rfl rfl ?_
    refine w_get F (by omega) rfl rfl in_X0 2 (by decide) (Or.inl q542) rfl dX0_isJob_13 ?_
    refine w_getF F (fS0 _ (by omega)) (by omega) rfl in_X1 (by decide) (Or.inr q149) dX0_isJob_16 ?_
    refine w_top (z' := (b : Int)) hb ?_
    refine w_iload_n F dX0_isJob_19 rfl ?_
    refine w_callS F (As := [_, _]) (ct_hasD hE γ (a := b) (j := i) (by omega) (by omega)) (lw_S q605 q606 q70 q607) md_X0_has rfl rfl (Nat.le_of_ble_eq_true rfl) dX0_isJob_20 ⟨by omega, by omega⟩ ⟨by omega, by omega⟩ ?_
    rintro _ _ ⟨rfl, rfl⟩
    refine w_if_eq F (tgt := 30) dX0_isJob_23 (by decide) (b2i_R _) (fun h2 => ?_) (fun h2 => ?_)
    · rw [b2i_0] at h2
      refine w_iconst F dX0_isJob_30 ?_
      exact w_zret F (by first | exact Or.inl rfl | exact Or.inr rfl | assumption | omega) (by omega) (by omega) (⟨by rw [b2i_f (fun q => h2 (by simpa using q.2.2))], rfl⟩) dX0_isJob_31
    · rw [b2i_n0] at h2
      refine w_iconst F dX0_isJob_26 ?_
      refine w_goto F (tgt := 31) dX0_isJob_27 (by decide) ?_
      exact w_zret F (by first | exact Or.inl rfl | exact Or.inr rfl | assumption | omega) (by omega) (by omega) (⟨by rw [b2i_t ⟨h.1, h.2, by simpa using h2⟩], rfl⟩) dX0_isJob_31
theorem ct_areStarts (hE : EOk E) (γ : GG) {a b : Int} (ha : InR a) (hb : InR b) : Ct l yX0_areStarts cX0_areStarts 2 (some .boolean) E 200 20000 [.int (iI a), .int (iI b)] γ (pI (b2i (btw a b)) γ) 0 0 := by
  refine Ct.of hE (by decide) (Nat.le_of_ble_eq_true rfl) (fun Φ hLn hΦ F hfr hlo => ?_)
  subst hLn; subst hΦ
  have h414 := F.ok.1.2.2
  have hrc := F.rc
  have hrs := F.rs
  show Wg Φ 2 _ 0 0 0 [(0, _), (1, _)] []
  refine w_rng (fun hR => ?_)
  have hz := b2i_01 (btw a b)
  refine w_iload_n F dX0_areStarts_0 rfl ?_
  refine w_i2l F dX0_areStarts_1 (by first | assumption | exact inR0 | exact (hR _ _ _).1 | (constructor <;> omega)) ?_
  refine w_lconst F dX0_areStarts_2 ?_
  refine w_topL (z' := 0) rfl ?_
  refine w_ldc2 F q650 dX0_areStarts_3 ?_
  refine w_topL (z' := 99) rfl ?_
  refine w_callS F (As := [_, _, _]) (ct_isIn hE γ ha inR0 (by decide)) (lw_S q279 q280 q70 q281) md_X0_isIn rfl rfl (Nat.le_of_ble_eq_true rfl) dX0_areStarts_6 ⟨by omega, by omega⟩ ⟨by omega, by omega⟩ ?_
  rintro _ _ ⟨rfl, rfl⟩
  refine w_if_eq F (tgt := 29) dX0_areStarts_9 (by decide) (b2i_R _) (fun h => ?_) (fun h => ?_)
  · rw [b2i_0] at h
    refine w_iconst F dX0_areStarts_29 ?_
    refine w_top (z' := b2i (btw a b)) (b2i_f (by omega)).symm ?_
    exact w_zret F (by first | exact Or.inl rfl | exact Or.inr rfl | assumption | omega) (by omega) (by omega) (⟨rfl, rfl⟩) dX0_areStarts_30
  · rw [b2i_n0] at h
    refine w_iload_n F dX0_areStarts_12 rfl ?_
    refine w_i2l F dX0_areStarts_13 (by first | assumption | exact inR0 | exact (hR _ _ _).1 | (constructor <;> omega)) ?_
    refine w_iload_n F dX0_areStarts_14 rfl ?_
    refine w_i2l F dX0_areStarts_15 (by first | assumption | exact inR0 | exact (hR _ _ _).1 | (constructor <;> omega)) ?_
    refine w_ldc2 F q650 dX0_areStarts_16 ?_
    refine w_topL (z' := 99) rfl ?_
    refine w_callS F (As := [_, _, _]) (ct_isIn hE γ hb ha (by decide)) (lw_S q279 q280 q70 q281) md_X0_isIn rfl rfl (Nat.le_of_ble_eq_true rfl) dX0_areStarts_19 ⟨by omega, by omega⟩ ⟨by omega, by omega⟩ ?_
    rintro _ _ ⟨rfl, rfl⟩
    refine w_if_eq F (tgt := 29) dX0_areStarts_22 (by decide) (b2i_R _) (fun h2 => ?_) (fun h2 => ?_)
    · rw [b2i_0] at h2
      refine w_iconst F dX0_areStarts_29 ?_
      refine w_top (z' := b2i (btw a b)) (b2i_f (by omega)).symm ?_
      exact w_zret F (by first | exact Or.inl rfl | exact Or.inr rfl | assumption | omega) (by omega) (by omega) (⟨rfl, rfl⟩) dX0_areStarts_30
    · rw [b2i_n0] at h2
      refine w_iconst F dX0_areStarts_25 ?_
      refine w_goto F (tgt := 30) dX0_areStarts_26 (by decide) ?_
      refine w_top (z' := b2i (btw a b)) (b2i_t (by omega)).symm ?_
      exact w_zret F (by first | exact Or.inl rfl | exact Or.inr rfl | assumption | omega) (by omega) (by omega) (⟨rfl, rfl⟩) dX0_areStarts_30
end D1
