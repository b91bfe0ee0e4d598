/-! State: small acts -/
theorem gl_key {T : Nat → Nat → Int} {γ : GG} {k x s j : Nat} (h4 : (s : Int) = 16 * γ (2 + k) 23 x + γ (2 + k) 24 x ∧ (0 ≤ γ (2 + k) 24 x ∧ γ (2 + k) 24 x < 12) ∧ 0 ≤ γ (2 + k) 23 x ∧ γ (2 + k) 23 x ≤ 99) (hj : j < 12) (ht : 0 ≤ T 2 j) : gl γ k x (T 2 j) (j : Int) ↔ keyT T j ≤ s := by
  unfold gl keyT
  omega
theorem w_nlN {Φ : PH} {nL : Nat} {γ : GG} {k n pc : Nat} {lv : List (Nat × Value)} {st : List Value} {i : Nat} (h : Wg Φ nL γ k n pc lv (va_rf (onode Φ.E.ad i (-1)) :: st)) : Wg Φ nL γ k n pc lv (.null :: st) := by rw [onode_n (by decide)] at h; exact h
section S1
variable {l : Launch} {E : EE}
theorem ct_clear (hE : EOk E) (γ : GG) {k : Nat} (hk : k < 13) : Ct l yX1_clear cX1_clear 1 none E 100 16000 [.ref (E.ad (11 + 31 * k))] γ (fun r g => r = none ∧ g (2 + k) 0 0 = 0 ∧ g (2 + k) 1 0 = 0 ∧ g (2 + k) 2 0 = -1 ∧ OffS k (fun f i => f ≤ 2 ∧ i = 0) γ g) 0 0 := by
  refine Ct.of hE (by decide) (Nat.le_of_ble_eq_true rfl) (fun Φ hLn hΦ F hfr hlo => ?_)
  subst hLn; subst hΦ
  have h414 := F.ok.1.2.2
  have hrc := F.rc
  have hrs := F.rs
  show Wg Φ 1 _ 0 0 0 [(0, _)] []
  refine w_rng (fun hR => ?_)
  refine w_aload_n F dX1_clear_0 rfl rfl ?_
  refine w_iconst F dX1_clear_1 ?_
  refine w_putF F (fS0 _ (by omega)) (by omega) rfl in_X1 tyX1 tyX1_ok nmX1 (by decide) (Or.inl q148) rfl rfl rfl (by first | assumption | exact inR0 | exact (hR _ _ _).1 | (constructor <;> omega)) (noB rfl) (noP rfl) dX1_clear_2 ?_
  refine w_aload_n F dX1_clear_5 rfl rfl ?_
  refine w_iconst F dX1_clear_6 ?_
  refine w_putF F (fS1 _ (by omega)) (by omega) rfl in_X1 tyX1 tyX1_ok nmX1 (by decide) (Or.inl q150) rfl rfl rfl (by first | assumption | exact inR0 | exact (hR _ _ _).1 | (constructor <;> omega)) (noB rfl) (noP rfl) dX1_clear_7 ?_
  refine w_aload_n F dX1_clear_10 rfl rfl ?_
  refine w_null F dX1_clear_11 ?_
  refine w_nlN (i := k) ?_
  refine w_putF F (val := vN _ _) (fS2 _ (by omega)) (by omega) rfl in_X1 tyX1 tyX1_ok nmX1 (by decide) (Or.inl q151) rfl (by first | rfl | exact nar_rf _ _) (by first | rfl | exact fit_rf _ _) (by first | assumption | exact inR0 | exact (hR _ _ _).1 | (constructor <;> omega)) (noB rfl) (fun _ => by constructor <;> omega) dX1_clear_12 ?_
  exact w_vret F (by omega) (by omega) (⟨rfl, by rw [gu_f (by decide), gu_f (by decide)]; exact gu_s _ _ _ _ _, by rw [gu_f (by decide)]; exact gu_s _ _ _ _ _, gu_s _ _ _ _ _, ((OffS.rf.up (by omega)).up (by omega)).up (by omega)⟩) dX1_clear_15
theorem ct_manyS (hE : EOk E) (γ : GG) {k b : Nat} (hk : k < 13) (hb : γ (2 + k) 0 0 = (b : Int)) (hb2 : b < 4096) : Ct l yX1_many cX1_many 1 (some .int) E 200 20000 [.ref (E.ad (11 + 31 * k))] γ (pI (cnt b 12 : Int) γ) 0 0 := by
  refine Ct.of hE (by decide) (Nat.le_of_ble_eq_true rfl) (fun Φ hLn hΦ F hfr hlo => ?_)
  subst hLn; subst hΦ
  have h414 := F.ok.1.2.2
  have hrc := F.rc
  have hrs := F.rs
  show Wg Φ 1 _ 0 0 0 [(0, _)] []
  refine w_rng (fun hR => ?_)
  refine w_aload_n F dX1_many_0 rfl rfl ?_
  refine w_getF F (fS0 _ (by omega)) (by omega) rfl in_X1 (by decide) (Or.inl q148) dX1_many_1 ?_
  refine w_top hb ?_
  refine w_callS F (As := [_]) (ct_bitCount hE γ hb2) (lw_S q400 q401 q85 q402) md_J7_bitCount rfl rfl (Nat.le_of_ble_eq_true rfl) dX1_many_4 ⟨by omega, by omega⟩ ⟨by omega, by omega⟩ ?_
  rintro _ _ ⟨rfl, rfl⟩
  exact w_iret F (by omega) (by omega) (⟨rfl, rfl⟩) dX1_many_7
theorem ct_freeS (hE : EOk E) (γ : GG) {k b : Nat} (hk : k < 13) (hb : γ (2 + k) 0 0 = (b : Int)) (hb2 : b < 4096) (hc : cnt b 12 ≠ 12) : Ct l yX1_free cX1_free 1 (some .int) E 200 20000 [.ref (E.ad (11 + 31 * k))] γ (pI (fj b : Int) γ) 0 0 := by
  refine Ct.of hE (by decide) (Nat.le_of_ble_eq_true rfl) (fun Φ hLn hΦ F hfr hlo => ?_)
  subst hLn; subst hΦ
  have h414 := F.ok.1.2.2
  have hrc := F.rc
  have hrs := F.rs
  show Wg Φ 1 _ 0 0 0 [(0, _)] []
  refine w_rng (fun hR => ?_)
  obtain ⟨q1, q2, q3⟩ := fj_spec hc
  refine w_aload_n F dX1_free_0 rfl rfl ?_
  refine w_getF F (fS0 _ (by omega)) (by omega) rfl in_X1 (by decide) (Or.inl q148) dX1_free_1 ?_
  refine w_top hb ?_
  refine w_iconst F dX1_free_4 ?_
  refine w_inot F dX1_free_5 ?_
  refine w_callS F (As := [_]) (ct_ntz hE γ (by omega) q3 q2 (by omega)) (lw_S q414 q415 q85 q416) md_J7_numberOfTrailingZeros rfl rfl (Nat.le_of_ble_eq_true rfl) dX1_free_6 ⟨by omega, by omega⟩ ⟨by omega, by omega⟩ ?_
  rintro _ _ ⟨rfl, rfl⟩
  exact w_iret F (by omega) (by omega) (⟨rfl, rfl⟩) dX1_free_9
theorem ct_rankS (hE : EOk E) (γ : GG) {k j : Nat} (hk : k < 13) {T : Nat → Nat → Int} (hj : JC T (γ (2 + k)) j) : Ct l yX1_rank cX1_rank 2 (some .int) E 400 28000 [.ref (E.ad (11 + 31 * k)), .int (iI (j : Int))] γ (pI (rkT T j) γ) 0 0 := by
  refine Ct.of hE (by decide) (Nat.le_of_ble_eq_true rfl) (fun Φ hLn hΦ F hfr hlo => ?_)
  subst hLn; subst hΦ
  have h414 := F.ok.1.2.2
  have hrc := F.rc
  have hrs := F.rs
  show Wg Φ 2 _ 0 0 0 [(0, _), (1, _)] []
  refine w_rng (fun hR => ?_)
  obtain ⟨j1, ⟨e1, e2, e3, e4⟩, r1, r2, r3, r4⟩ := hj
  obtain ⟨a, ha⟩ : ∃ a : Nat, T 1 j = (a : Int) := ⟨(T 1 j).toNat, by omega⟩
  refine w_aload_n F dX1_rank_0 rfl rfl ?_
  refine w_get F (by omega) (cell_stO (by omega)) rfl in_X1 12 (by decide) (Or.inl q166) rfl dX1_rank_1 ?_
  refine w_get F (by omega) rfl rfl in_X0 0 (by decide) (Or.inr q540) rfl dX1_rank_4 ?_
  refine w_aload_n F dX1_rank_7 rfl rfl ?_
  refine w_get F (by omega) (cell_stO (by omega)) rfl in_X1 4 (by decide) (Or.inl q154) rfl dX1_rank_8 ?_
  refine w_iload_n F dX1_rank_11 rfl ?_
  first | refine w_baldN F (aS4 _ (by omega)) (by omega) (by decide) (by omega) dX1_rank_12 ?_ | refine w_bald F (aS4 _ (by omega)) (by omega) (by decide) (by omega) (by omega) dX1_rank_12 ?_
  refine w_top (z' := (a : Int)) (by rw [← ha]; exact e1) ?_
  refine w_kindsN F (by omega) (by omega) dX1_rank_13 ?_
  refine w_aload_n F dX1_rank_14 rfl rfl ?_
  refine w_get F (by omega) (cell_stO (by omega)) rfl in_X1 6 (by decide) (Or.inl q158) rfl dX1_rank_15 ?_
  refine w_iload_n F dX1_rank_18 rfl ?_
  first | refine w_baldN F (aS6 _ (by omega)) (by omega) (by decide) (by omega) dX1_rank_19 ?_ | refine w_bald F (aS6 _ (by omega)) (by omega) (by decide) (by omega) (by omega) dX1_rank_19 ?_
  refine w_top e3 ?_
  refine w_aload_n F dX1_rank_20 rfl rfl ?_
  refine w_get F (by omega) (cell_stO (by omega)) rfl in_X1 7 (by decide) (Or.inl q160) rfl dX1_rank_21 ?_
  refine w_iload_n F dX1_rank_24 rfl ?_
  first | refine w_baldN F (aS7 _ (by omega)) (by omega) (by decide) (by omega) dX1_rank_25 ?_ | refine w_bald F (aS7 _ (by omega)) (by omega) (by decide) (by omega) (by omega) dX1_rank_25 ?_
  refine w_top e4 ?_
  refine w_rankI F (by omega) (by omega) (by omega) q452 (Nat.le_of_ble_eq_true rfl) dX1_rank_26 ⟨by omega, by omega⟩ ⟨by omega, by omega⟩ ?_
  rw [← ha]
  exact w_iret F (by omega) (by omega) (⟨rfl, rfl⟩) dX1_rank_31
theorem ct_isDueAhead (hE : EOk E) (hA : AhOk l E) (γ : GG) {k i j : Nat} (hk : k < 13) {T : Nat → Nat → Int} (hi : JC T (γ (2 + k)) i) (hj : JC T (γ (2 + k)) j) : Ct l yX1_isDueAhead cX1_isDueAhead 3 (some .boolean) E 500 32000 [.ref (E.ad (11 + 31 * k)), .int (iI (i : Int)), .int (iI (j : Int))] γ (pI (b2i (rkT T i < rkT T j ∨ rkT T i = rkT T j ∧ (i : Int) < (j : Int))) γ) 0 0 := by
  refine Ct.of hE (by decide) (Nat.le_of_ble_eq_true rfl) (fun Φ hLn hΦ F hfr hlo => ?_)
  subst hLn; subst hΦ
  have h414 := F.ok.1.2.2
  have hrc := F.rc
  have hrs := F.rs
  show Wg Φ 3 _ 0 0 0 [(0, _), (1, _), (2, _)] []
  refine w_rng (fun hR => ?_)
  obtain ⟨i1, ⟨e1, e2, e3, e4⟩, r1, r2, r3, r4⟩ := id hi
  have b1 := rk_in (k := T 1 i) (ln := T 4 i) (d := T 3 i) (by omega) (by omega) (by omega) (by omega)
  obtain ⟨j1, _, s1, s2, s3, s4⟩ := id hj
  have b2 := rk_in (k := T 1 j) (ln := T 4 j) (d := T 3 j) (by omega) (by omega) (by omega) (by omega)
  have b1 : 0 ≤ rkT T i ∧ rkT T i ≤ 1100 := b1
  have b2 : 0 ≤ rkT T j ∧ rkT T j ≤ 1100 := b2
  obtain ⟨a, ha⟩ : ∃ a : Nat, T 1 i = (a : Int) := ⟨(T 1 i).toNat, by omega⟩
  have hz := b2i_01 (rkT T i < rkT T j ∨ rkT T i = rkT T j ∧ (i : Int) < (j : Int))
  refine w_aload_n F dX1_isDueAhead_0 rfl rfl ?_
  refine w_get F (by omega) (cell_stO (by omega)) rfl in_X1 12 (by decide) (Or.inl q166) rfl dX1_isDueAhead_1 ?_
  refine w_get F (by omega) rfl rfl in_X0 0 (by decide) (Or.inr q540) rfl dX1_isDueAhead_4 ?_
  refine w_aload_n F dX1_isDueAhead_7 rfl rfl ?_
  refine w_get F (by omega) (cell_stO (by omega)) rfl in_X1 4 (by decide) (Or.inl q154) rfl dX1_isDueAhead_8 ?_
  refine w_iload_n F dX1_isDueAhead_11 rfl ?_
  first | refine w_baldN F (aS4 _ (by omega)) (by omega) (by decide) (by omega) dX1_isDueAhead_12 ?_ | refine w_bald F (aS4 _ (by omega)) (by omega) (by decide) (by omega) (by omega) dX1_isDueAhead_12 ?_
  refine w_top (z' := (a : Int)) (by rw [← ha]; exact e1) ?_
  refine w_kindsN F (by omega) (by omega) dX1_isDueAhead_13 ?_
  refine w_aload_n F dX1_isDueAhead_14 rfl rfl ?_
  refine w_iload_n F dX1_isDueAhead_15 rfl ?_
  refine w_callV F (As := [_]) (ct_rankS hE γ hk hi) (lw_V q447 q448 q449 q71 q450) md_X1_rank (by omega) (cell_stO (by omega)) rfl rfl rfl rfl (Nat.le_of_ble_eq_true rfl) dX1_isDueAhead_16 ⟨by omega, by omega⟩ ⟨by omega, by omega⟩ ?_
  rintro _ _ ⟨rfl, rfl⟩
  refine w_iload_n F dX1_isDueAhead_19 rfl ?_
  refine w_aload_n F dX1_isDueAhead_20 rfl rfl ?_
  refine w_iload_n F dX1_isDueAhead_21 rfl ?_
  refine w_callV F (As := [_]) (ct_rankS hE γ hk hj) (lw_V q447 q448 q449 q71 q450) md_X1_rank (by omega) (cell_stO (by omega)) rfl rfl rfl rfl (Nat.le_of_ble_eq_true rfl) dX1_isDueAhead_22 ⟨by omega, by omega⟩ ⟨by omega, by omega⟩ ?_
  rintro _ _ ⟨rfl, rfl⟩
  refine w_iload_n F dX1_isDueAhead_25 rfl ?_
  refine hA Φ _ _ _ _ _ _ _ _ _ _ _ _ _ _ _ a _ _ _ _ rfl rfl F (by omega) ⟨by omega, by omega⟩ ⟨by omega, by omega⟩ ⟨by omega, by omega⟩ ⟨by omega, by omega⟩ q489 (Nat.le_of_ble_eq_true rfl) dX1_isDueAhead_26 ⟨by omega, by omega⟩ ⟨by omega, by omega⟩ ?_
  exact w_zret F (by first | exact Or.inl rfl | exact Or.inr rfl | assumption | omega) (by omega) (by omega) (⟨rfl, rfl⟩) dX1_isDueAhead_31
theorem ct_partS (hE : EOk E) (γ : GG) {k x j : Nat} (hk : k < 13) (hx : x < 23) {T : Nat → Nat → Int} (hj : JC T (γ (2 + k)) j) : Ct l yX1_part cX1_part 3 (some (.object "DeadlineTree$Node")) E 300 24000 [.ref (E.ad (11 + 31 * k)), .ref (E.ad (19 + 31 * k + x)), .int (iI (j : Int))] γ (pR (va_rf (onode E.ad k (if gl γ k x (T 2 j) (j : Int) then γ (2 + k) 21 x else γ (2 + k) 22 x))) γ) 0 0 := by
  refine Ct.of hE (by decide) (Nat.le_of_ble_eq_true rfl) (fun Φ hLn hΦ F hfr hlo => ?_)
  subst hLn; subst hΦ
  have h414 := F.ok.1.2.2
  have hrc := F.rc
  have hrs := F.rs
  show Wg Φ 3 _ 0 0 0 [(0, _), (1, _), (2, _)] []
  refine w_rng (fun hR => ?_)
  obtain ⟨j1, ⟨e1, e2, e3, e4⟩, r1, r2, r3, r4⟩ := hj
  refine w_aload_n F dX1_part_0 rfl rfl ?_
  refine w_aload_n F dX1_part_1 rfl rfl ?_
  refine w_get F (by omega) (cell_stO (by omega)) rfl in_X1 5 (by decide) (Or.inl q156) rfl dX1_part_2 ?_
  refine w_iload_n F dX1_part_5 rfl ?_
  first | refine w_baldN F (aS5 _ (by omega)) (by omega) (by decide) (by omega) dX1_part_6 ?_ | refine w_bald F (aS5 _ (by omega)) (by omega) (by decide) (by omega) (by omega) dX1_part_6 ?_
  refine w_top e2 ?_
  refine w_iload_n F dX1_part_7 rfl ?_
  refine w_callV F (As := [_, _]) (ct_partN hE γ hk hx ⟨by omega, by omega⟩ ⟨by omega, by omega⟩) (lw_V q430 q431 q432 q72 q433) md_X2_part (by omega) (cell_nd (by omega) (by omega)) rfl rfl rfl rfl (Nat.le_of_ble_eq_true rfl) dX1_part_8 ⟨by omega, by omega⟩ ⟨by omega, by omega⟩ ?_
  rintro _ _ ⟨rfl, rfl⟩
  exact w_aret F (by first | exact Or.inr ⟨_, rfl⟩ | exact Or.inl rfl | exact rf_or _) (by omega) (by omega) (⟨rfl, rfl⟩) dX1_part_11
theorem ct_release (hE : EOk E) (γ : GG) {k x b : Nat} (hk : k < 13) (hx : x < 23) (hb : γ (2 + k) 1 0 = (b : Int)) : Ct l yX1_release cX1_release 2 none E 100 16000 [.ref (E.ad (11 + 31 * k)), .ref (E.ad (19 + 31 * k + x))] γ (fun r g => r = none ∧ g = gu γ (2 + k) 1 0 ((b ^^^ (b &&& 2 ^ x) : Nat) : Int)) 0 0 := by
  refine Ct.of hE (by decide) (Nat.le_of_ble_eq_true rfl) (fun Φ hLn hΦ F hfr hlo => ?_)
  subst hLn; subst hΦ
  have h414 := F.ok.1.2.2
  have hrc := F.rc
  have hrs := F.rs
  show Wg Φ 2 _ 0 0 0 [(0, _), (1, _)] []
  refine w_rng (fun hR => ?_)
  have hpw : 2 ^ x < 2 ^ 23 := Nat.pow_lt_pow_right (by decide) hx
  have hbr := (hR (2 + k) 1 0).1
  rw [hb] at hbr
  have hle : (b ^^^ (b &&& 2 ^ x)) < 2 ^ 31 := Nat.xor_lt_two_pow (by omega) (Nat.lt_of_le_of_lt Nat.and_le_left (by omega))
  refine w_aload_n F dX1_release_0 rfl rfl ?_
  refine w_dup F dX1_release_1 rfl ?_
  refine w_getF F (fS1 _ (by omega)) (by omega) rfl in_X1 (by decide) (Or.inl q150) dX1_release_2 ?_
  refine w_top hb ?_
  refine w_iconst F dX1_release_5 ?_
  refine w_aload_n F dX1_release_6 rfl rfl ?_
  refine w_get F (by omega) (cell_nd (by omega) (by omega)) rfl in_X2 0 (by decide) (Or.inr q114) rfl dX1_release_7 ?_
  refine w_ishl1 F (by omega) dX1_release_10 ?_
  refine w_iconst F dX1_release_11 ?_
  refine w_inot F dX1_release_12 ?_
  first | refine w_iandC F (by omega) dX1_release_13 ?_ | refine w_iand F dX1_release_13 ?_
  refine w_putF F (fS1 _ (by omega)) (by omega) rfl in_X1 tyX1 tyX1_ok nmX1 (by decide) (Or.inl q150) rfl rfl rfl (by first | assumption | exact inR0 | exact (hR _ _ _).1 | (constructor <;> omega)) (noB rfl) (noP rfl) dX1_release_14 ?_
  exact w_vret F (by omega) (by omega) (⟨rfl, rfl⟩) dX1_release_17
theorem ct_leafS (hE : EOk E) (γ : GG) {k j : Nat} (hk : k < 13) {T : Nat → Nat → Int} (hj : JC T (γ (2 + k)) j) {us : List Nat} (hu : UsC (γ (2 + k)) us) (hlu : us.length < 23) : Ct l yX1_leaf cX1_leaf 4 (some (.object "DeadlineTree$Node")) E 200 20000 [.ref (E.ad (11 + 31 * k)), .int (iI (j : Int))] γ (fun r g => ∃ x, x < 23 ∧ x ∉ us ∧ r = some (.ref (E.ad (19 + 31 * k + x))) ∧ RC T (g (2 + k)) (.leaf j) x (fun _ => false) [x] ∧ UsC (g (2 + k)) (x :: us) ∧ OffS k (fun f i => (f = 1 ∧ i = 0) ∨ (21 ≤ f ∧ f ≤ 26 ∧ i = x)) γ g) 0 0 := by
  refine Ct.of hE (by decide) (Nat.le_of_ble_eq_true rfl) (fun Φ hLn hΦ F hfr hlo => ?_)
  subst hLn; subst hΦ
  have h414 := F.ok.1.2.2
  have hrc := F.rc
  have hrs := F.rs
  show Wg Φ 4 _ 0 0 0 [(0, _), (1, _)] []
  refine w_rng (fun hR => ?_)
  obtain ⟨j1, ⟨e1, e2, e3, e4⟩, r1, r2, r3, r4⟩ := hj
  obtain ⟨b, u1, u2, u3, u4⟩ := hu
  obtain ⟨x, x1, x2, x3⟩ := UsC.free u3 u4 hlu
  have hpw : 2 ^ x < 2 ^ 23 := Nat.pow_lt_pow_right (by decide) x1
  have hor : (b ||| 2 ^ x) < 2 ^ 23 := Nat.or_lt_two_pow u2 hpw
  refine w_aload_n F dX1_leaf_0 rfl rfl ?_
  refine w_getF F (fS1 _ (by omega)) (by omega) rfl in_X1 (by decide) (Or.inl q150) dX1_leaf_1 ?_
  refine w_top u1 ?_
  refine w_iconst F dX1_leaf_4 ?_
  refine w_inot F dX1_leaf_5 ?_
  refine w_callS F (As := [_]) (ct_ntz hE γ u2 x3 x2 x1) (lw_S q414 q415 q85 q416) md_J7_numberOfTrailingZeros rfl rfl (Nat.le_of_ble_eq_true rfl) dX1_leaf_6 ⟨by omega, by omega⟩ ⟨by omega, by omega⟩ ?_
  rintro _ _ ⟨rfl, rfl⟩
  refine w_istore_n F dX1_leaf_9 (by decide) rfl (lv' := [(0, _), (1, _), (2, _)]) rfl ?_
  refine w_aload_n F dX1_leaf_10 rfl rfl ?_
  refine w_get F (by omega) (cell_stO (by omega)) rfl in_X1 3 (by decide) (Or.inl q153) rfl dX1_leaf_11 ?_
  refine w_iload_n F dX1_leaf_14 rfl ?_
  first | refine w_nodesN F (by omega) (by omega) (by omega) dX1_leaf_15 ?_ | refine w_nodes F (by omega) (by omega) (by omega) (by omega) dX1_leaf_15 ?_
  refine w_astore_n F dX1_leaf_16 (by decide) rfl (lv' := [(0, _), (1, _), (2, _), (3, _)]) rfl rfl ?_
  refine w_aload_n F dX1_leaf_17 rfl rfl ?_
  refine w_dup F dX1_leaf_18 rfl ?_
  refine w_getF F (fS1 _ (by omega)) (by omega) rfl in_X1 (by decide) (Or.inl q150) dX1_leaf_19 ?_
  refine w_top u1 ?_
  refine w_iconst F dX1_leaf_22 ?_
  refine w_iload_n F dX1_leaf_23 rfl ?_
  refine w_ishl1 F (by omega) dX1_leaf_24 ?_
  refine w_ior F dX1_leaf_25 ?_
  refine w_putF F (fS1 _ (by omega)) (by omega) rfl in_X1 tyX1 tyX1_ok nmX1 (by decide) (Or.inl q150) rfl rfl rfl (by first | assumption | exact inR0 | exact (hR _ _ _).1 | (constructor <;> omega)) (noB rfl) (noP rfl) dX1_leaf_26 ?_
  refine w_aload_n F dX1_leaf_29 rfl rfl ?_
  refine w_null F dX1_leaf_30 ?_
  refine w_nlN (i := k) ?_
  refine w_putF F (val := vN _ _) (fN1 _ (by omega) (by omega)) (by omega) rfl in_X2 tyX2 tyX2_ok nmX2 (by decide) (Or.inr q116) rfl (by first | rfl | exact nar_rf _ _) (by first | rfl | exact fit_rf _ _) (by first | assumption | exact inR0 | exact (hR _ _ _).1 | (constructor <;> omega)) (noB rfl) (fun _ => by constructor <;> omega) dX1_leaf_31 ?_
  refine w_aload_n F dX1_leaf_34 rfl rfl ?_
  refine w_null F dX1_leaf_35 ?_
  refine w_nlN (i := k) ?_
  refine w_putF F (val := vN _ _) (fN2 _ (by omega) (by omega)) (by omega) rfl in_X2 tyX2 tyX2_ok nmX2 (by decide) (Or.inr q118) rfl (by first | rfl | exact nar_rf _ _) (by first | rfl | exact fit_rf _ _) (by first | assumption | exact inR0 | exact (hR _ _ _).1 | (constructor <;> omega)) (noB rfl) (fun _ => by constructor <;> omega) dX1_leaf_36 ?_
  refine w_aload_n F dX1_leaf_39 rfl rfl ?_
  refine w_aload_n F dX1_leaf_40 rfl rfl ?_
  refine w_get F (by omega) (cell_stO (by omega)) rfl in_X1 5 (by decide) (Or.inl q156) rfl dX1_leaf_41 ?_
  refine w_iload_n F dX1_leaf_44 rfl ?_
  first | refine w_baldN F (aS5 _ (by omega)) (by omega) (by decide) (by omega) dX1_leaf_45 ?_ | refine w_bald F (aS5 _ (by omega)) (by omega) (by decide) (by omega) (by omega) dX1_leaf_45 ?_
  refine w_top (z' := T 2 j) (by rw [gu_f (by decide), gu_f (by decide), gu_f (by decide)]; exact e2) ?_
  refine w_putF F (fN3 _ (by omega) (by omega)) (by omega) rfl in_X2 tyX2 tyX2_ok nmX2 (by decide) (Or.inr q122) rfl rfl rfl (by first | assumption | exact inR0 | exact (hR _ _ _).1 | (constructor <;> omega)) (noB rfl) (noP rfl) dX1_leaf_46 ?_
  refine w_aload_n F dX1_leaf_49 rfl rfl ?_
  refine w_iload_n F dX1_leaf_50 rfl ?_
  refine w_putF F (fN4 _ (by omega) (by omega)) (by omega) rfl in_X2 tyX2 tyX2_ok nmX2 (by decide) (Or.inr q125) rfl rfl rfl (by first | assumption | exact inR0 | exact (hR _ _ _).1 | (constructor <;> omega)) (noB rfl) (noP rfl) dX1_leaf_51 ?_
  refine w_aload_n F dX1_leaf_54 rfl rfl ?_
  refine w_bipush F dX1_leaf_55 rfl ?_
  refine w_putF F (fN5 _ (by omega) (by omega)) (by omega) rfl in_X2 tyX2 tyX2_ok nmX2 (by decide) (Or.inr q128) rfl rfl rfl (by first | assumption | exact inR0 | exact (hR _ _ _).1 | (constructor <;> omega)) (noB rfl) (noP rfl) dX1_leaf_57 ?_
  refine w_aload_n F dX1_leaf_60 rfl rfl ?_
  refine w_iconst F dX1_leaf_61 ?_
  refine w_putF F (fN6 _ (by omega) (by omega)) (by omega) rfl in_X2 tyX2 tyX2_ok nmX2 (by decide) (Or.inr q129) rfl rfl rfl (by first | assumption | exact inR0 | exact (hR _ _ _).1 | (constructor <;> omega)) (noB rfl) (noP rfl) dX1_leaf_62 ?_
  obtain ⟨g, hg⟩ : ∃ g, g = gu (gu (gu (gu (gu (gu (gu γ (2 + k) 1 0 ((b ||| 2 ^ x : Nat) : Int)) (2 + k) 21 x (-1)) (2 + k) 22 x (-1)) (2 + k) 23 x (T 2 j)) (2 + k) 24 x (j : Int)) (2 + k) 25 x (-4)) (2 + k) 26 x 1 := ⟨_, rfl⟩
  rw [← hg]
  have o : OffS k (fun f i => (f = 1 ∧ i = 0) ∨ (21 ≤ f ∧ f ≤ 26 ∧ i = x)) γ g := by
    rw [hg]
    exact ((((((OffS.rf.up (by omega)).up (by omega)).up (by omega)).up (by omega)).up (by omega)).up (by omega)).up (by omega)
  have g1 : g (2 + k) 1 0 = ((b ||| 2 ^ x : Nat) : Int) := by rw [hg]; simp [gu]
  have hU := UsC.take (σ' := g (2 + k)) u2 u3 u4 x1 x2 g1
  have hb0 : bst (rkT T) (fun _ => false) [j] = -4 := by
    rcases (bst_spec (rkT T) (fun _ => false) [j]).in with q | ⟨_, _, q⟩
    · exact q
    · cases q.2
  have hrc : RC T (g (2 + k)) (.leaf j) x (fun _ => false) [x] := by
    refine ⟨rfl, x1, ?_, ?_, ?_, ?_, ?_, ?_⟩
    · rw [hg]; simp [gu]
    · rw [hg]; simp [gu]
    · rw [hg]; simp [gu]
    · rw [hg]; simp [gu]
    · rw [hg]; simp [gu]
    · rw [hb0, hg]; simp [gu]
  refine w_aload_n F dX1_leaf_65 rfl rfl ?_
  exact w_aret F (by first | exact Or.inr ⟨_, rfl⟩ | exact Or.inl rfl | exact rf_or _) (by omega) (by omega) (⟨x, x1, hU.2, rfl, hrc, hU.1, o⟩) dX1_leaf_66
end S1
