/-! DeadlineTree: leftOf, vacant -/
section D4
variable {l : Launch} {E : EE}
theorem ct_leftOf (hE : EOk E) (γ : GG) {T : Nat → Nat → Int} {u v : Int} (hu : u = -4 ∨ ∃ i : Nat, u = (i : Int) ∧ JC T (γ 3) i) (hv : v = -4 ∨ ∃ i : Nat, v = (i : Int) ∧ JC T (γ 3) i) : Ct l yX0_leftOf cX0_leftOf 4 (some .int) E 200 20000 [.ref (E.ad 0), .int (iI u), .int (iI v)] γ (pI (lfO (T 2) u v) γ) 0 0 := by
  refine Ct.of hE (by decide) (Nat.le_of_ble_eq_true rfl) (fun Φ hLn hΦ F hfr hlo => ?_)
  subst hLn; subst hΦ
  have h414 := F.ok.1.2.2
  have hrc := F.rc
  have hrs := F.rs
  show Wg Φ 4 _ 0 0 0 [(0, _), (1, _), (2, _)] []
  refine w_rng (fun hR => ?_)
  have ru : -4 ≤ u ∧ u < 12 := by
    rcases hu with q | ⟨i, q, q1⟩
    · omega
    · have := q1.1; omega
  have rv : -4 ≤ v ∧ v < 12 := by
    rcases hv with q | ⟨i, q, q1⟩
    · omega
    · have := q1.1; omega
  have mx : (u = -4 ∨ v = -4) → Wg Φ 4 γ 0 0 12 [(0, .ref (Φ.E.ad 0)), (1, .int (iI u)), (2, .int (iI v))] [] := by
    intro h
    refine w_iload_n F dX0_leftOf_12 rfl ?_
    refine w_iload_n F dX0_leftOf_13 rfl ?_
    refine w_callS F (As := [_, _]) (ct_max hE γ (by omega) (by omega)) (lw_S q743 q468 q86 q469) md_J8_max rfl rfl (Nat.le_of_ble_eq_true rfl) dX0_leftOf_14 ⟨by omega, by omega⟩ ⟨by omega, by omega⟩ ?_
    rintro _ _ ⟨rfl, rfl⟩
    refine w_top (z' := lfO (T 2) u v) (by unfold lfO; rw [if_pos h]) ?_
    exact w_iret F (by omega) (by omega) (⟨rfl, rfl⟩) dX0_leftOf_17
  refine w_iload_n F dX0_leftOf_0 rfl ?_
  refine w_bipush F dX0_leftOf_1 rfl ?_
  refine w_icmp_eq F (tgt := 12) dX0_leftOf_3 (by decide) (by first | assumption | exact inR0 | exact (hR _ _ _).1 | (constructor <;> omega)) (by first | assumption | exact inR0 | exact (hR _ _ _).1 | (constructor <;> omega)) (fun h => ?_) (fun h => ?_)
  · exact mx (Or.inl h)
  · refine w_iload_n F dX0_leftOf_6 rfl ?_
    refine w_bipush F dX0_leftOf_7 rfl ?_
    refine w_icmp_ne F (tgt := 18) dX0_leftOf_9 (by decide) (by first | assumption | exact inR0 | exact (hR _ _ _).1 | (constructor <;> omega)) (by first | assumption | exact inR0 | exact (hR _ _ _).1 | (constructor <;> omega)) (fun h2 => ?_) (fun h2 => ?_)
    · obtain ⟨i, ei, ji⟩ := hu.resolve_left h
      obtain ⟨j, ej, jj⟩ := hv.resolve_left h2
      subst ei
      subst ej
      have i1 := ji.1
      have j1 := jj.1
      have si : γ 3 5 i = T 2 i := ji.2.1.2.1
      have sj : γ 3 5 j = T 2 j := jj.2.1.2.1
      have bi := ji.2.2.2.1
      have bj := jj.2.2.2.1
      have no : ¬ (T 2 i < T 2 j ∨ T 2 i = T 2 j ∧ (i : Int) < (j : Int)) → Wg Φ 4 γ 0 0 69 [(0, .ref (Φ.E.ad 0)), (1, .int (iI (i : Int))), (2, .int (iI (j : Int)))] [] := by
        intro hn
        refine w_iconst F dX0_leftOf_69 ?_
        refine w_istore_n F dX0_leftOf_70 (by decide) rfl (lv' := [(0, _), (1, _), (2, _), (3, _)]) rfl ?_
        refine w_iload_n F dX0_leftOf_71 rfl ?_
        refine w_if_eq F (tgt := 79) dX0_leftOf_72 (by decide) (by first | assumption | exact inR0 | exact (hR _ _ _).1 | (constructor <;> omega)) (fun h9 => ?_) (fun h9 => ?_)
        · refine w_iload_n F dX0_leftOf_79 rfl ?_
          refine w_top (z' := lfO (T 2) (i : Int) (j : Int)) (by unfold lfO; rw [if_neg (by omega), if_neg (by simpa using hn)]) ?_
          exact w_iret F (by omega) (by omega) (⟨rfl, rfl⟩) dX0_leftOf_80
        · omega
      have ye : (T 2 i < T 2 j ∨ T 2 i = T 2 j ∧ (i : Int) < (j : Int)) → Wg Φ 4 γ 0 0 65 [(0, .ref (Φ.E.ad 0)), (1, .int (iI (i : Int))), (2, .int (iI (j : Int)))] [] := by
        intro hn
        refine w_iconst F dX0_leftOf_65 ?_
        refine w_goto F (tgt := 70) dX0_leftOf_66 (by decide) ?_
        refine w_istore_n F dX0_leftOf_70 (by decide) rfl (lv' := [(0, _), (1, _), (2, _), (3, _)]) rfl ?_
        refine w_iload_n F dX0_leftOf_71 rfl ?_
        refine w_if_eq F (tgt := 79) dX0_leftOf_72 (by decide) (by first | assumption | exact inR0 | exact (hR _ _ _).1 | (constructor <;> omega)) (fun h9 => ?_) (fun h9 => ?_)
        · omega
        · refine w_iload_n F dX0_leftOf_75 rfl ?_
          refine w_goto F (tgt := 80) dX0_leftOf_76 (by decide) ?_
          refine w_top (z' := lfO (T 2) (i : Int) (j : Int)) (by unfold lfO; rw [if_neg (by omega), if_pos (by simpa using hn)]) ?_
          exact w_iret F (by omega) (by omega) (⟨rfl, rfl⟩) dX0_leftOf_80
      refine w_aload_n F dX0_leftOf_18 rfl rfl ?_
      refine w_get F (by omega) rfl rfl in_X0 2 (by decide) (Or.inl q542) rfl dX0_leftOf_19 ?_
      refine w_get F (by omega) (cell_stO (by omega)) rfl in_X1 5 (by decide) (Or.inr q157) rfl dX0_leftOf_22 ?_
      refine w_iload_n F dX0_leftOf_25 rfl ?_
      first | refine w_baldN F (aS5 _ (by omega)) (by omega) (by decide) (by omega) dX0_leftOf_26 ?_ | refine w_bald F (aS5 _ (by omega)) (by omega) (by decide) (by omega) (by omega) dX0_leftOf_26 ?_
      refine w_top (z' := T 2 i) si ?_
      refine w_aload_n F dX0_leftOf_27 rfl rfl ?_
      refine w_get F (by omega) rfl rfl in_X0 2 (by decide) (Or.inl q542) rfl dX0_leftOf_28 ?_
      refine w_get F (by omega) (cell_stO (by omega)) rfl in_X1 5 (by decide) (Or.inr q157) rfl dX0_leftOf_31 ?_
      refine w_iload_n F dX0_leftOf_34 rfl ?_
      first | refine w_baldN F (aS5 _ (by omega)) (by omega) (by decide) (by omega) dX0_leftOf_35 ?_ | refine w_bald F (aS5 _ (by omega)) (by omega) (by decide) (by omega) (by omega) dX0_leftOf_35 ?_
      refine w_top (z' := T 2 j) sj ?_
      refine w_icmp_lt F (tgt := 65) dX0_leftOf_36 (by decide) (by first | assumption | exact inR0 | exact (hR _ _ _).1 | (constructor <;> omega)) (by first | assumption | exact inR0 | exact (hR _ _ _).1 | (constructor <;> omega)) (fun h3 => ?_) (fun h3 => ?_)
      · exact ye (Or.inl h3)
      · refine w_aload_n F dX0_leftOf_39 rfl rfl ?_
        refine w_get F (by omega) rfl rfl in_X0 2 (by decide) (Or.inl q542) rfl dX0_leftOf_40 ?_
        refine w_get F (by omega) (cell_stO (by omega)) rfl in_X1 5 (by decide) (Or.inr q157) rfl dX0_leftOf_43 ?_
        refine w_iload_n F dX0_leftOf_46 rfl ?_
        first | refine w_baldN F (aS5 _ (by omega)) (by omega) (by decide) (by omega) dX0_leftOf_47 ?_ | refine w_bald F (aS5 _ (by omega)) (by omega) (by decide) (by omega) (by omega) dX0_leftOf_47 ?_
        refine w_top (z' := T 2 i) si ?_
        refine w_aload_n F dX0_leftOf_48 rfl rfl ?_
        refine w_get F (by omega) rfl rfl in_X0 2 (by decide) (Or.inl q542) rfl dX0_leftOf_49 ?_
        refine w_get F (by omega) (cell_stO (by omega)) rfl in_X1 5 (by decide) (Or.inr q157) rfl dX0_leftOf_52 ?_
        refine w_iload_n F dX0_leftOf_55 rfl ?_
        first | refine w_baldN F (aS5 _ (by omega)) (by omega) (by decide) (by omega) dX0_leftOf_56 ?_ | refine w_bald F (aS5 _ (by omega)) (by omega) (by decide) (by omega) (by omega) dX0_leftOf_56 ?_
        refine w_top (z' := T 2 j) sj ?_
        refine w_icmp_ne F (tgt := 69) dX0_leftOf_57 (by decide) (by first | assumption | exact inR0 | exact (hR _ _ _).1 | (constructor <;> omega)) (by first | assumption | exact inR0 | exact (hR _ _ _).1 | (constructor <;> omega)) (fun h4 => ?_) (fun h4 => ?_)
        · exact no (by omega)
        · refine w_iload_n F dX0_leftOf_60 rfl ?_
          refine w_iload_n F dX0_leftOf_61 rfl ?_
          refine w_icmp_ge F (tgt := 69) dX0_leftOf_62 (by decide) (by first | assumption | exact inR0 | exact (hR _ _ _).1 | (constructor <;> omega)) (by first | assumption | exact inR0 | exact (hR _ _ _).1 | (constructor <;> omega)) (fun h5 => ?_) (fun h5 => ?_)
          · exact no (by omega)
          · exact ye (by omega)
    · exact mx (Or.inr h2)
theorem ct_vacant (hE : EOk E) {k : Nat} (hk : k < 13) {T : Nat → Nat → Int} (γ : GG) : ∀ (t : TT) (x : Nat) (S : Nat → Bool) (ns : List Nat), RC T (γ (2 + k)) t x S ns → nn t ≤ 23 → (∀ i ∈ tl t, i < 12) → Ct l yX0_vacant cX0_vacant 3 (some .int) E (200 + nn t) (20000 + 40 * nn t) [.ref (E.ad 0), .ref (E.ad (19 + 31 * k + x))] γ (pI ((hl (rkT T) t S).count (-4) : Int) γ) 0 0 := by
  intro t
  induction t with
  | leaf q =>
    intro x S ns hr hl0 hJ
    refine Ct.of hE (by decide) (Nat.le_of_ble_eq_true rfl) (fun Φ hLn hΦ F hfr hlo => ?_)
    subst hLn; subst hΦ
    have h414 := F.ok.1.2.2
    have hrc := F.rc
    have hrs := F.rs
    show Wg Φ 3 _ 0 0 0 [(0, _), (1, _)] []
    refine w_rng (fun hR => ?_)
    have hx := hr.lt
    obtain ⟨e, h1, h2, h3, h4, h5, h6, h7⟩ := id hr
    have hq := hJ q (by simp [tl])
    have hbr : -4 ≤ bst (rkT T) S [q] ∧ bst (rkT T) S [q] < 12 := by
      rcases (bst_spec (rkT T) S [q]).in with w | ⟨i, w, w1⟩
      · omega
      · have : i = q := by simpa using w1.1
        omega
    have mid : ∀ z : Int, z = ((hl (rkT T) (.leaf q) S).count (-4) : Int) → (0 ≤ z ∧ z ≤ 1) → Wg Φ 3 γ 0 0 14 [(0, .ref (Φ.E.ad 0)), (1, .ref (Φ.E.ad (19 + 31 * k + x)))] [.int (iI z)] := by
      intro z hz hz2
      refine w_istore_n F dX0_vacant_14 (by decide) rfl (lv' := [(0, _), (1, _), (2, _)]) rfl ?_
      refine w_aload_n F dX0_vacant_15 rfl rfl ?_
      refine w_callV F (As := []) (ct_isLeafN hE γ hk hx) (lw_V q610 q423 q424 q72 q425) md_X2_isLeaf (by omega) (cell_nd (by omega) (by omega)) rfl rfl rfl rfl (Nat.le_of_ble_eq_true rfl) dX0_vacant_16 ⟨by omega, by omega⟩ ⟨by omega, by omega⟩ ?_
      rintro _ _ ⟨rfl, rfl⟩
      refine w_if_eq F (tgt := 26) dX0_vacant_19 (by decide) (b2i_R _) (fun h => ?_) (fun h => ?_)
      · rw [b2i_0] at h
        omega
      · refine w_iload_n F dX0_vacant_22 rfl ?_
        refine w_goto F (tgt := 45) dX0_vacant_23 (by decide) ?_
        exact w_iret F (by omega) (by omega) (⟨by rw [hz], rfl⟩) dX0_vacant_45
    refine w_aload_n F dX0_vacant_0 rfl rfl ?_
    refine w_getF F (fN5 _ (by omega) (by omega)) (by omega) rfl in_X2 (by decide) (Or.inr q127) dX0_vacant_1 ?_
    refine w_top h7 ?_
    refine w_bipush F dX0_vacant_4 rfl ?_
    refine w_icmp_ne F (tgt := 13) dX0_vacant_6 (by decide) (by first | assumption | exact inR0 | exact (hR _ _ _).1 | (constructor <;> omega)) (by first | assumption | exact inR0 | exact (hR _ _ _).1 | (constructor <;> omega)) (fun h => ?_) (fun h => ?_)
    · refine w_iconst F dX0_vacant_13 ?_
      exact mid 0 (by simp only [hl]; rw [List.count_singleton]; simp [h]) (by omega)
    · refine w_iconst F dX0_vacant_9 ?_
      refine w_goto F (tgt := 14) dX0_vacant_10 (by decide) ?_
      exact mid 1 (by simp only [hl]; rw [h]; simp) (by omega)
  | branch s a b iha ihb =>
    intro x S ns hr hl0 hJ
    refine Ct.of hE (by decide) (Nat.le_of_ble_eq_true rfl) (fun Φ hLn hΦ F hfr hlo => ?_)
    subst hLn; subst hΦ
    have h414 := F.ok.1.2.2
    have hrc := F.rc
    have hrs := F.rs
    show Wg Φ 3 _ 0 0 0 [(0, _), (1, _)] []
    refine w_rng (fun hR => ?_)
    have hx := hr.lt
    obtain ⟨xa, xb, na, nb, e, h1, h2, h3, h4, h5, h6, h7, h8⟩ := id hr
    have hxa := h7.lt
    have hxb := h8.lt
    have hnn : nn (.branch s a b) = 1 + nn a + nn b := rfl
    have hbr : -4 ≤ bst (rkT T) S (tl a ++ tl b) ∧ bst (rkT T) S (tl a ++ tl b) < 12 := by
      rcases (bst_spec (rkT T) S (tl a ++ tl b)).in with w | ⟨i, w, w1⟩
      · omega
      · have := hJ i w1.1
        omega
    obtain ⟨S', hS'⟩ : ∃ q, q = wo S (bst (rkT T) S (tl a ++ tl b)) := ⟨_, rfl⟩
    rw [← hS'] at h7 h8
    have mid : ∀ z : Int, (0 ≤ z ∧ z ≤ 1) → z + ((hl (rkT T) a S').count (-4) : Int) + ((hl (rkT T) b S').count (-4) : Int) = ((hl (rkT T) (.branch s a b) S).count (-4) : Int) → Wg Φ 3 γ 0 0 14 [(0, .ref (Φ.E.ad 0)), (1, .ref (Φ.E.ad (19 + 31 * k + x)))] [.int (iI z)] := by
      intro z hz2 hz
      refine w_istore_n F dX0_vacant_14 (by decide) rfl (lv' := [(0, _), (1, _), (2, _)]) rfl ?_
      refine w_aload_n F dX0_vacant_15 rfl rfl ?_
      refine w_callV F (As := []) (ct_isLeafN hE γ hk hx) (lw_V q610 q423 q424 q72 q425) md_X2_isLeaf (by omega) (cell_nd (by omega) (by omega)) rfl rfl rfl rfl (Nat.le_of_ble_eq_true rfl) dX0_vacant_16 ⟨by omega, by omega⟩ ⟨by omega, by omega⟩ ?_
      rintro _ _ ⟨rfl, rfl⟩
      refine w_if_eq F (tgt := 26) dX0_vacant_19 (by decide) (b2i_R _) (fun h => ?_) (fun h => ?_)
      · refine w_iload_n F dX0_vacant_26 rfl ?_
        refine w_aload_n F dX0_vacant_27 rfl rfl ?_
        refine w_aload_n F dX0_vacant_28 rfl rfl ?_
        refine w_getF F (fN1 _ (by omega) (by omega)) (by omega) rfl in_X2 (by decide) (Or.inr q117) dX0_vacant_29 ?_
        refine w_toN h2 ?_
        refine w_callV F (As := [_]) (iha xa S' na h7 (by omega) (fun i hi => hJ i (List.mem_append_left _ hi))) (lw_V q812 q814 qs33 q70 q815) md_X0_vacant (by omega) rfl rfl rfl rfl rfl (Nat.le_of_ble_eq_true rfl) dX0_vacant_32 ⟨by omega, by omega⟩ ⟨by omega, by omega⟩ ?_
        rintro _ _ ⟨rfl, rfl⟩
        refine w_iadd F dX0_vacant_35 ?_
        refine w_aload_n F dX0_vacant_36 rfl rfl ?_
        refine w_aload_n F dX0_vacant_37 rfl rfl ?_
        refine w_getF F (fN2 _ (by omega) (by omega)) (by omega) rfl in_X2 (by decide) (Or.inr q120) dX0_vacant_38 ?_
        refine w_toN h3 ?_
        refine w_callV F (As := [_]) (ihb xb S' nb h8 (by omega) (fun i hi => hJ i (List.mem_append_right _ hi))) (lw_V q812 q814 qs33 q70 q815) md_X0_vacant (by omega) rfl rfl rfl rfl rfl (Nat.le_of_ble_eq_true rfl) dX0_vacant_41 ⟨by omega, by omega⟩ ⟨by omega, by omega⟩ ?_
        rintro _ _ ⟨rfl, rfl⟩
        refine w_iadd F dX0_vacant_44 ?_
        refine w_top hz ?_
        exact w_iret F (by omega) (by omega) (⟨rfl, rfl⟩) dX0_vacant_45
      · rw [b2i_n0] at h
        omega
    refine w_aload_n F dX0_vacant_0 rfl rfl ?_
    refine w_getF F (fN5 _ (by omega) (by omega)) (by omega) rfl in_X2 (by decide) (Or.inr q127) dX0_vacant_1 ?_
    refine w_top h6 ?_
    refine w_bipush F dX0_vacant_4 rfl ?_
    refine w_icmp_ne F (tgt := 13) dX0_vacant_6 (by decide) (by first | assumption | exact inR0 | exact (hR _ _ _).1 | (constructor <;> omega)) (by first | assumption | exact inR0 | exact (hR _ _ _).1 | (constructor <;> omega)) (fun h => ?_) (fun h => ?_)
    · refine w_iconst F dX0_vacant_13 ?_
      refine mid 0 (by omega) ?_
      simp only [hl]
      rw [← hS', List.count_cons, List.count_append, if_neg (by simpa using h)]
      omega
    · refine w_iconst F dX0_vacant_9 ?_
      refine w_goto F (tgt := 14) dX0_vacant_10 (by decide) ?_
      refine mid 1 (by omega) ?_
      simp only [hl]
      rw [← hS', List.count_cons, List.count_append, if_pos (by simpa using h)]
      omega
end D4
