/-! Node; Math -/
section N1
variable {l : Launch} {E : EE}
theorem ct_max (hE : EOk E) (γ : GG) {a b : Int} (ha : InR a) (hb : InR b) : Ct l yJ8_max cJ8_max 2 (some .int) E 100 16000 [.int (iI a), .int (iI b)] γ (pI (max a b) γ) 0 0 := by
  refine Ct.ofF hE (by decide +kernel) (Nat.le_of_ble_eq_true rfl) (fun Φ hLn hΦ F hfr hlo => ?_)
  subst hLn; subst hΦ
  have h414 := F.ok.1.2.2
  have hrc := F.rc
  have hrs := F.rs
  show Wg Φ 2 _ 0 0 0 [(0, _), (1, _)] []
  refine w_rng (fun hR => ?_)
  refine w_iload_n F dJ8_max_0 rfl ?_
  refine w_iload_n F dJ8_max_1 rfl ?_
  refine w_icmp_lt F (tgt := 9) dJ8_max_2 (by decide) (by first | assumption | exact inR0 | exact (hR _ _ _).1 | (constructor <;> omega)) (by first | assumption | exact inR0 | exact (hR _ _ _).1 | (constructor <;> omega)) (fun h => ?_) (fun h => ?_)
  · refine w_iload_n F dJ8_max_9 rfl ?_
    refine w_top (z' := max a b) (by omega) ?_
    exact w_iret F (by omega) (by omega) (⟨rfl, rfl⟩) dJ8_max_10
  · refine w_iload_n F dJ8_max_5 rfl ?_
    refine w_goto F (tgt := 10) dJ8_max_6 (by decide) ?_
    refine w_top (z' := max a b) (by omega) ?_
    exact w_iret F (by omega) (by omega) (⟨rfl, rfl⟩) dJ8_max_10
theorem ct_min (hE : EOk E) (γ : GG) {a b : Int} (ha : InR a) (hb : InR b) : Ct l yJ8_min cJ8_min 2 (some .int) E 100 16000 [.int (iI a), .int (iI b)] γ (pI (min a b) γ) 0 0 := by
  refine Ct.ofF hE (by decide +kernel) (Nat.le_of_ble_eq_true rfl) (fun Φ hLn hΦ F hfr hlo => ?_)
  subst hLn; subst hΦ
  have h414 := F.ok.1.2.2
  have hrc := F.rc
  have hrs := F.rs
  show Wg Φ 2 _ 0 0 0 [(0, _), (1, _)] []
  refine w_rng (fun hR => ?_)
  refine w_iload_n F dJ8_min_0 rfl ?_
  refine w_iload_n F dJ8_min_1 rfl ?_
  refine w_icmp_gt F (tgt := 9) dJ8_min_2 (by decide) (by first | assumption | exact inR0 | exact (hR _ _ _).1 | (constructor <;> omega)) (by first | assumption | exact inR0 | exact (hR _ _ _).1 | (constructor <;> omega)) (fun h => ?_) (fun h => ?_)
  · refine w_iload_n F dJ8_min_9 rfl ?_
    refine w_top (z' := min a b) (by omega) ?_
    exact w_iret F (by omega) (by omega) (⟨rfl, rfl⟩) dJ8_min_10
  · refine w_iload_n F dJ8_min_5 rfl ?_
    refine w_goto F (tgt := 10) dJ8_min_6 (by decide) ?_
    refine w_top (z' := min a b) (by omega) ?_
    exact w_iret F (by omega) (by omega) (⟨rfl, rfl⟩) dJ8_min_10
theorem ct_isLeafN (hE : EOk E) (γ : GG) {k x : Nat} (hk : k < 13) (hx : x < 23) : Ct l yX2_isLeaf cX2_isLeaf 1 (some .boolean) E 100 16000 [.ref (E.ad (19 + 31 * k + x))] γ (pI (b2i (γ (2 + k) 21 x < 0)) γ) 0 0 := by
  refine Ct.of hE (by decide) (Nat.le_of_ble_eq_true rfl) (fun Φ hLn hΦ F hfr hlo => ?_)
  subst hLn; subst hΦ
  have h414 := F.ok.1.2.2
  have hrc := F.rc
  have hrs := F.rs
  show Wg Φ 1 _ 0 0 0 [(0, _)] []
  refine w_rng (fun hR => ?_)
  refine w_aload_n F dX2_isLeaf_0 rfl rfl ?_
  refine w_getF F (fN1 _ (by omega) (by omega)) (by omega) rfl in_X2 (by decide) (Or.inl q115) dX2_isLeaf_1 ?_
  refine w_ifnonnull F (tgt := 11) dX2_isLeaf_4 (by decide)  (fun h => ?_) (fun h => ?_)
  · refine w_iconst F dX2_isLeaf_11 ?_
    refine w_top (z' := b2i (γ (2 + k) 21 x < 0)) (b2i_f (by omega)).symm ?_
    have hz := b2i_01 (γ (2 + k) 21 x < 0)
    exact w_zret F (by first | exact Or.inl rfl | exact Or.inr rfl | assumption | omega) (by omega) (by omega) (⟨rfl, rfl⟩) dX2_isLeaf_12
  · refine w_iconst F dX2_isLeaf_7 ?_
    refine w_goto F (tgt := 12) dX2_isLeaf_8 (by decide) ?_
    refine w_top (z' := b2i (γ (2 + k) 21 x < 0)) (b2i_t (by omega)).symm ?_
    have hz := b2i_01 (γ (2 + k) 21 x < 0)
    exact w_zret F (by first | exact Or.inl rfl | exact Or.inr rfl | assumption | omega) (by omega) (by omega) (⟨rfl, rfl⟩) dX2_isLeaf_12
abbrev gl (γ : GG) (k x : Nat) (s j : Int) : Prop := s < γ (2 + k) 23 x ∨ s = γ (2 + k) 23 x ∧ j ≤ γ (2 + k) 24 x
theorem ct_goesLeft (hE : EOk E) (γ : GG) {k x : Nat} (hk : k < 13) (hx : x < 23) {s j : Int} (hs : InR s) (hj : InR j) : Ct l yX2_goesLeft cX2_goesLeft 3 (some .boolean) E 100 16000 [.ref (E.ad (19 + 31 * k + x)), .int (iI s), .int (iI j)] γ (pI (b2i (gl γ k x s j)) γ) 0 0 := by
  refine Ct.of hE (by decide) (Nat.le_of_ble_eq_true rfl) (fun Φ hLn hΦ F hfr hlo => ?_)
  subst hLn; subst hΦ
  have h414 := F.ok.1.2.2
  have hrc := F.rc
  have hrs := F.rs
  show Wg Φ 3 _ 0 0 0 [(0, _), (1, _), (2, _)] []
  refine w_rng (fun hR => ?_)
  have hz := b2i_01 (gl γ k x s j)
  have hno : ¬ gl γ k x s j → Wg Φ 3 γ 0 0 28 [(0, .ref (Φ.E.ad (19 + 31 * k + x))), (1, .int (iI s)), (2, .int (iI j))] [] := by
    intro hn
    refine w_iconst F dX2_goesLeft_28 ?_
    refine w_top (z' := b2i (gl γ k x s j)) (b2i_f hn).symm ?_
    exact w_zret F (by first | exact Or.inl rfl | exact Or.inr rfl | assumption | omega) (by omega) (by omega) (⟨rfl, rfl⟩) dX2_goesLeft_29
  have hye : gl γ k x s j → Wg Φ 3 γ 0 0 24 [(0, .ref (Φ.E.ad (19 + 31 * k + x))), (1, .int (iI s)), (2, .int (iI j))] [] := by
    intro hn
    refine w_iconst F dX2_goesLeft_24 ?_
    refine w_goto F (tgt := 29) dX2_goesLeft_25 (by decide) ?_
    refine w_top (z' := b2i (gl γ k x s j)) (b2i_t hn).symm ?_
    exact w_zret F (by first | exact Or.inl rfl | exact Or.inr rfl | assumption | omega) (by omega) (by omega) (⟨rfl, rfl⟩) dX2_goesLeft_29
  refine w_iload_n F dX2_goesLeft_0 rfl ?_
  refine w_aload_n F dX2_goesLeft_1 rfl rfl ?_
  refine w_getF F (fN3 _ (by omega) (by omega)) (by omega) rfl in_X2 (by decide) (Or.inl q121) dX2_goesLeft_2 ?_
  refine w_icmp_lt F (tgt := 24) dX2_goesLeft_5 (by decide) (by first | assumption | exact inR0 | exact (hR _ _ _).1 | (constructor <;> omega)) (by first | assumption | exact inR0 | exact (hR _ _ _).1 | (constructor <;> omega)) (fun h => ?_) (fun h => ?_)
  · exact hye (Or.inl h)
  · refine w_iload_n F dX2_goesLeft_8 rfl ?_
    refine w_aload_n F dX2_goesLeft_9 rfl rfl ?_
    refine w_getF F (fN3 _ (by omega) (by omega)) (by omega) rfl in_X2 (by decide) (Or.inl q121) dX2_goesLeft_10 ?_
    refine w_icmp_ne F (tgt := 28) dX2_goesLeft_13 (by decide) (by first | assumption | exact inR0 | exact (hR _ _ _).1 | (constructor <;> omega)) (by first | assumption | exact inR0 | exact (hR _ _ _).1 | (constructor <;> omega)) (fun h2 => ?_) (fun h2 => ?_)
    · exact hno (fun q => by rcases q with q | q <;> omega)
    · refine w_iload_n F dX2_goesLeft_16 rfl ?_
      refine w_aload_n F dX2_goesLeft_17 rfl rfl ?_
      refine w_getF F (fN4 _ (by omega) (by omega)) (by omega) rfl in_X2 (by decide) (Or.inl q124) dX2_goesLeft_18 ?_
      refine w_icmp_gt F (tgt := 28) dX2_goesLeft_21 (by decide) (by first | assumption | exact inR0 | exact (hR _ _ _).1 | (constructor <;> omega)) (by first | assumption | exact inR0 | exact (hR _ _ _).1 | (constructor <;> omega)) (fun h3 => ?_) (fun h3 => ?_)
      · exact hno (fun q => by rcases q with q | q <;> omega)
      · exact hye (Or.inr ⟨h2, h3⟩)
theorem ct_partN (hE : EOk E) (γ : GG) {k x : Nat} (hk : k < 13) (hx : x < 23) {s j : Int} (hs : InR s) (hj : InR j) : Ct l yX2_part cX2_part 3 (some (.object "DeadlineTree$Node")) E 200 20000 [.ref (E.ad (19 + 31 * k + x)), .int (iI s), .int (iI j)] γ (pR (va_rf (onode E.ad k (if gl γ k x s j then γ (2 + k) 21 x else γ (2 + k) 22 x))) γ) 0 0 := by
  refine Ct.of hE (by decide) (Nat.le_of_ble_eq_true rfl) (fun Φ hLn hΦ F hfr hlo => ?_)
  subst hLn; subst hΦ
  have h414 := F.ok.1.2.2
  have hrc := F.rc
  have hrs := F.rs
  show Wg Φ 3 _ 0 0 0 [(0, _), (1, _), (2, _)] []
  refine w_rng (fun hR => ?_)
  refine w_aload_n F dX2_part_0 rfl rfl ?_
  refine w_iload_n F dX2_part_1 rfl ?_
  refine w_iload_n F dX2_part_2 rfl ?_
  refine w_callV F (As := [_, _]) (ct_goesLeft hE γ hk hx hs hj) (lw_V q434 q435 q436 q72 q437) md_X2_goesLeft (by omega) (cell_nd (by omega) (by omega)) rfl rfl rfl rfl (Nat.le_of_ble_eq_true rfl) dX2_part_3 ⟨by omega, by omega⟩ ⟨by omega, by omega⟩ ?_
  rintro _ _ ⟨rfl, rfl⟩
  refine w_if_eq F (tgt := 16) dX2_part_6 (by decide) (b2i_R _) (fun h => ?_) (fun h => ?_)
  · rw [b2i_0] at h
    refine w_aload_n F dX2_part_16 rfl rfl ?_
    refine w_getF F (fN2 _ (by omega) (by omega)) (by omega) rfl in_X2 (by decide) (Or.inl q119) dX2_part_17 ?_
    exact w_aret F (by first | exact Or.inr ⟨_, rfl⟩ | exact Or.inl rfl | exact rf_or _) (by omega) (by omega) (⟨by rw [if_neg h], rfl⟩) dX2_part_20
  · rw [b2i_n0] at h
    refine w_aload_n F dX2_part_9 rfl rfl ?_
    refine w_getF F (fN1 _ (by omega) (by omega)) (by omega) rfl in_X2 (by decide) (Or.inl q115) dX2_part_10 ?_
    refine w_goto F (tgt := 20) dX2_part_13 (by decide) ?_
    exact w_aret F (by first | exact Or.inr ⟨_, rfl⟩ | exact Or.inl rfl | exact rf_or _) (by omega) (by omega) (⟨by rw [if_pos h], rfl⟩) dX2_part_20
theorem ct_leansN (hE : EOk E) (γ : GG) {k x xa xb : Nat} (hk : k < 13) (hx : x < 23) (hxa : xa < 23) (hxb : xb < 23) (ha : γ (2 + k) 21 x = (xa : Int)) (hb : γ (2 + k) 22 x = (xb : Int)) {A B : Nat} (h1 : γ (2 + k) 26 xa = (A : Int)) (h2 : γ (2 + k) 26 xb = (B : Int)) (h3 : γ (2 + k) 26 x = (A + B : Int)) (hA : A < 100) (hB : B < 100) : Ct l yX2_leans cX2_leans 2 (some .boolean) E 200 20000 [.ref (E.ad (19 + 31 * k + x))] γ (pI (b2i (A > 2 * B + 1 ∨ B > 2 * A + 1)) γ) 0 0 := by
  refine Ct.of hE (by decide) (Nat.le_of_ble_eq_true rfl) (fun Φ hLn hΦ F hfr hlo => ?_)
  subst hLn; subst hΦ
  have h414 := F.ok.1.2.2
  have hrc := F.rc
  have hrs := F.rs
  show Wg Φ 2 _ 0 0 0 [(0, _)] []
  refine w_rng (fun hR => ?_)
  have hz := b2i_01 (A > 2 * B + 1 ∨ B > 2 * A + 1)
  refine w_aload_n F dX2_leans_0 rfl rfl ?_
  refine w_getF F (fN1 _ (by omega) (by omega)) (by omega) rfl in_X2 (by decide) (Or.inl q115) dX2_leans_1 ?_
  refine w_toN ha ?_
  refine w_getF F (fN6 _ (by omega) (by omega)) (by omega) rfl in_X2 (by decide) (Or.inl q130) dX2_leans_4 ?_
  refine w_top h1 ?_
  refine w_aload_n F dX2_leans_7 rfl rfl ?_
  refine w_getF F (fN2 _ (by omega) (by omega)) (by omega) rfl in_X2 (by decide) (Or.inl q119) dX2_leans_8 ?_
  refine w_toN hb ?_
  refine w_getF F (fN6 _ (by omega) (by omega)) (by omega) rfl in_X2 (by decide) (Or.inl q130) dX2_leans_11 ?_
  refine w_top h2 ?_
  refine w_callS F (As := [_, _]) (ct_max hE γ (by omega) (by omega)) (lw_S q507 q468 q86 q469) md_J8_max rfl rfl (Nat.le_of_ble_eq_true rfl) dX2_leans_14 ⟨by omega, by omega⟩ ⟨by omega, by omega⟩ ?_
  rintro _ _ ⟨rfl, rfl⟩
  refine w_istore_n F dX2_leans_17 (by decide) rfl (lv' := [(0, _), (1, _)]) rfl ?_
  refine w_iload_n F dX2_leans_18 rfl ?_
  refine w_iconst F dX2_leans_19 ?_
  refine w_aload_n F dX2_leans_20 rfl rfl ?_
  refine w_getF F (fN6 _ (by omega) (by omega)) (by omega) rfl in_X2 (by decide) (Or.inl q130) dX2_leans_21 ?_
  refine w_top h3 ?_
  refine w_iload_n F dX2_leans_24 rfl ?_
  refine w_isub F dX2_leans_25 ?_
  refine w_imul F dX2_leans_26 ?_
  refine w_iconst F dX2_leans_27 ?_
  refine w_iadd F dX2_leans_28 ?_
  refine w_icmp_le F (tgt := 36) dX2_leans_29 (by decide) (by first | assumption | exact inR0 | exact (hR _ _ _).1 | (constructor <;> omega)) (by first | assumption | exact inR0 | exact (hR _ _ _).1 | (constructor <;> omega)) (fun h => ?_) (fun h => ?_)
  · refine w_iconst F dX2_leans_36 ?_
    refine w_top (z' := b2i (A > 2 * B + 1 ∨ B > 2 * A + 1)) (b2i_f (by omega)).symm ?_
    exact w_zret F (by first | exact Or.inl rfl | exact Or.inr rfl | assumption | omega) (by omega) (by omega) (⟨rfl, rfl⟩) dX2_leans_37
  · refine w_iconst F dX2_leans_32 ?_
    refine w_goto F (tgt := 37) dX2_leans_33 (by decide) ?_
    refine w_top (z' := b2i (A > 2 * B + 1 ∨ B > 2 * A + 1)) (b2i_t (by omega)).symm ?_
    exact w_zret F (by first | exact Or.inl rfl | exact Or.inr rfl | assumption | omega) (by omega) (by omega) (⟨rfl, rfl⟩) dX2_leans_37
end N1
