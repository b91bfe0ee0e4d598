/-! State: add to nothing, delay, levelAll -/
section S9
variable {l : Launch} {E : EE}
theorem ct_addS0 (hE : EOk E) (γ : GG) {k : Nat} (hk : k < 13) (hv : SE (γ (2 + k))) {q : Q4} (ht : tld q) : Ct l yX1_add cX1_add 11 (some .int) E 900 48000 [.ref (E.ad (11 + 31 * k)), .int (iI q.1), .int (iI q.2.1), .int (iI q.2.2.1), .int (iI q.2.2.2)] γ (fun r g => r = some (.int (iI 0)) ∧ SV (g (2 + k)) (vOne q) ∧ OnlyS k γ g) 0 0 := by
  refine Ct.of hE (by decide) (Nat.le_of_ble_eq_true rfl) (fun Φ hLn hΦ F hfr hlo => ?_)
  subst hLn; subst hΦ
  have h414 := F.ok.1.2.2
  have hrc := F.rc
  have hrs := F.rs
  show Wg Φ 11 _ 0 0 0 [(0, _), (1, _), (2, _), (3, _), (4, _)] []
  refine w_rng (fun hR => ?_)
  obtain ⟨kd, s, d, ln⟩ := q
  obtain ⟨v1, v2, v3⟩ := hv
  dsimp only at *
  have t1 : 0 ≤ kd ∧ kd ≤ 3 := ht.1
  have t2 : 0 ≤ s ∧ s ≤ 99 := ht.2.1
  have t3 : 0 ≤ d ∧ d ≤ 99 := ht.2.2.1
  have t4 : 1 ≤ ln ∧ ln ≤ 9 := ht.2.2.2
  obtain ⟨j, hj⟩ : ∃ q, q = fj 0 := ⟨_, rfl⟩
  have hj0 : j = 0 := by rw [hj]; rfl
  obtain ⟨T', hT'⟩ : ∃ q, q = upT T00 0 kd s d ln := ⟨_, rfl⟩
  have hor : (0 ||| 2 ^ j : Nat) = 1 := by rw [hj0]; rfl
  refine w_aload_n F dX1_add_0 rfl rfl ?_
  refine w_callV F (As := []) (ct_freeS hE γ hk (b := 0) v1 (by omega) (by decide)) (lw_V q410 q411 q412 q71 q413) md_X1_free (by omega) (cell_stO (by omega)) rfl rfl rfl rfl (Nat.le_of_ble_eq_true rfl) dX1_add_1 ⟨by omega, by omega⟩ ⟨by omega, by omega⟩ ?_
  rintro _ _ ⟨rfl, rfl⟩
  rw [← hj]
  refine w_istore F dX1_add_4 (by decide) rfl (lv' := [(0, _), (1, _), (2, _), (3, _), (4, _), (5, _)]) rfl ?_
  refine w_aload_n F dX1_add_6 rfl rfl ?_
  refine w_get F (by omega) (cell_stO (by omega)) rfl in_X1 4 (by decide) (Or.inl q154) rfl dX1_add_7 ?_
  refine w_iload F dX1_add_10 rfl ?_
  refine w_iload_n F dX1_add_12 rfl ?_
  refine w_i2b F dX1_add_13 (by omega) (by omega) ?_
  first | refine w_bastN F (aS4 _ (by omega)) (by omega) (by decide) (isP_n rfl) (by constructor <;> omega) (by omega) dX1_add_14 ?_ | refine w_bast F (aS4 _ (by omega)) (by omega) (by decide) (isP_n rfl) (by constructor <;> omega) (by omega) (by omega) dX1_add_14 ?_
  refine w_aload_n F dX1_add_15 rfl rfl ?_
  refine w_get F (by omega) (cell_stO (by omega)) rfl in_X1 5 (by decide) (Or.inl q156) rfl dX1_add_16 ?_
  refine w_iload F dX1_add_19 rfl ?_
  refine w_iload_n F dX1_add_21 rfl ?_
  refine w_i2b F dX1_add_22 (by omega) (by omega) ?_
  first | refine w_bastN F (aS5 _ (by omega)) (by omega) (by decide) (isP_n rfl) (by constructor <;> omega) (by omega) dX1_add_23 ?_ | refine w_bast F (aS5 _ (by omega)) (by omega) (by decide) (isP_n rfl) (by constructor <;> omega) (by omega) (by omega) dX1_add_23 ?_
  refine w_aload_n F dX1_add_24 rfl rfl ?_
  refine w_get F (by omega) (cell_stO (by omega)) rfl in_X1 6 (by decide) (Or.inl q158) rfl dX1_add_25 ?_
  refine w_iload F dX1_add_28 rfl ?_
  refine w_iload_n F dX1_add_30 rfl ?_
  refine w_i2b F dX1_add_31 (by omega) (by omega) ?_
  first | refine w_bastN F (aS6 _ (by omega)) (by omega) (by decide) (isP_n rfl) (by constructor <;> omega) (by omega) dX1_add_32 ?_ | refine w_bast F (aS6 _ (by omega)) (by omega) (by decide) (isP_n rfl) (by constructor <;> omega) (by omega) (by omega) dX1_add_32 ?_
  refine w_aload_n F dX1_add_33 rfl rfl ?_
  refine w_get F (by omega) (cell_stO (by omega)) rfl in_X1 7 (by decide) (Or.inl q160) rfl dX1_add_34 ?_
  refine w_iload F dX1_add_37 rfl ?_
  refine w_iload F dX1_add_39 rfl ?_
  refine w_i2b F dX1_add_41 (by omega) (by omega) ?_
  first | refine w_bastN F (aS7 _ (by omega)) (by omega) (by decide) (isP_n rfl) (by constructor <;> omega) (by omega) dX1_add_42 ?_ | refine w_bast F (aS7 _ (by omega)) (by omega) (by decide) (isP_n rfl) (by constructor <;> omega) (by omega) (by omega) dX1_add_42 ?_
  refine w_aload_n F dX1_add_43 rfl rfl ?_
  refine w_dup F dX1_add_44 rfl ?_
  refine w_getF F (fS0 _ (by omega)) (by omega) rfl in_X1 (by decide) (Or.inl q148) dX1_add_45 ?_
  refine w_top (z' := ((0 : Nat) : Int)) (by rw [gu_f (by decide), gu_f (by decide), gu_f (by decide), gu_f (by decide)]; exact v1) ?_
  refine w_iconst F dX1_add_48 ?_
  refine w_iload F dX1_add_49 rfl ?_
  refine w_ishl1 F (by omega) dX1_add_51 ?_
  refine w_ior F dX1_add_52 ?_
  refine w_top (z' := ((1 : Nat) : Int)) (by rw [hor]) ?_
  refine w_putF F (fS0 _ (by omega)) (by omega) rfl in_X1 tyX1 tyX1_ok nmX1 (by decide) (Or.inl q148) rfl rfl rfl (by first | assumption | exact inR0 | exact (hR _ _ _).1 | (constructor <;> omega)) (noB rfl) (noP rfl) dX1_add_53 ?_
  obtain ⟨g1, hg1⟩ : ∃ g, g = gu (gu (gu (gu (gu γ (2 + k) 4 j kd) (2 + k) 5 j s) (2 + k) 6 j d) (2 + k) 7 j ln) (2 + k) 0 0 ((1 : Nat) : Int) := ⟨_, rfl⟩
  rw [← hg1]
  have o1 : OffS k (fun f i => (4 ≤ f ∧ f ≤ 7 ∧ i = j) ∨ (f = 0 ∧ i = 0)) γ g1 := by rw [hg1]; exact ((((OffS.rf.up (by omega)).up (by omega)).up (by omega)).up (by omega)).up (by omega)
  have hT1 : T' 1 j = kd ∧ T' 2 j = s ∧ T' 3 j = d ∧ T' 4 j = ln := by rw [hT', hj0]; unfold upT; simp
  have hJj : JC T' (g1 (2 + k)) j := by
    refine ⟨by omega, ⟨?_, ?_, ?_, ?_⟩, by rw [hT1.1]; exact t1, by rw [hT1.2.1]; exact t2, by rw [hT1.2.2.1]; exact t3, by rw [hT1.2.2.2]; exact t4⟩
    · rw [hT1.1, hg1]; simp [gu]
    · rw [hT1.2.1, hg1]; simp [gu]
    · rw [hT1.2.2.1, hg1]; simp [gu]
    · rw [hT1.2.2.2, hg1]; simp [gu]
  have hU1 : UsC (g1 (2 + k)) [] := ⟨0, by rw [o1.s (by omega)]; exact v2, by decide, by simp, fun z => by simp⟩
  refine w_aload_n F dX1_add_56 rfl rfl ?_
  refine w_getF F (fS2 _ (by omega)) (by omega) rfl in_X1 (by decide) (Or.inl q151) dX1_add_57 ?_
  refine w_ifnonnull F (tgt := 84) dX1_add_60 (by decide)  (fun h => ?_) (fun h => ?_)
  · rw [o1.s (by omega), v3] at h
    omega
  · refine w_aload_n F dX1_add_63 rfl rfl ?_
    refine w_aload_n F dX1_add_64 rfl rfl ?_
    refine w_iload F dX1_add_65 rfl ?_
    refine w_callV F (As := [_]) (ct_leafS hE g1 hk hJj hU1 (by simp)) (lw_V q418 q420 qs8 q71 q421) md_X1_leaf (by omega) (cell_stO (by omega)) rfl rfl rfl rfl (Nat.le_of_ble_eq_true rfl) dX1_add_67 ⟨by omega, by omega⟩ ⟨by omega, by omega⟩ ?_
    rintro _ g2 ⟨x, hx, n1, rfl, r2, u2, o2⟩
    refine w_frN ?_
    refine w_putF F (val := vN _ _) (fS2 _ (by omega)) (by omega) rfl in_X1 tyX1 tyX1_ok nmX1 (by decide) (Or.inl q151) rfl (by first | rfl | exact nar_rf _ _) (by first | rfl | exact fit_rf _ _) (by first | assumption | exact inR0 | exact (hR _ _ _).1 | (constructor <;> omega)) (noB rfl) (fun _ => by constructor <;> omega) dX1_add_70 ?_
    refine w_aload_n F dX1_add_73 rfl rfl ?_
    refine w_getF F (fS2 _ (by omega)) (by omega) rfl in_X1 (by decide) (Or.inl q151) dX1_add_74 ?_
    refine w_toN (j := x) (gu_s _ _ _ _ _) ?_
    refine w_iload F dX1_add_77 rfl ?_
    refine w_putF F (fN5 _ (by omega) (by omega)) (by omega) rfl in_X2 tyX2 tyX2_ok nmX2 (by decide) (Or.inr q128) rfl rfl rfl (by first | assumption | exact inR0 | exact (hR _ _ _).1 | (constructor <;> omega)) (noB rfl) (noP rfl) dX1_add_79 ?_
    refine w_iconst F dX1_add_82 ?_
    obtain ⟨g4, hg4⟩ : ∃ g, g = gu (gu g2 (2 + k) 2 0 (x : Int)) (2 + k) 25 x (j : Int) := ⟨_, rfl⟩
    rw [← hg4]
    have o4 : OffS k (fun f i => (f = 2 ∧ i = 0) ∨ (f = 25 ∧ i = x)) g2 g4 := by rw [hg4]; exact (OffS.rf.up (by omega)).up (by omega)
    obtain ⟨e, h1, h2, h3, h4, h5, h6, h7⟩ := r2
    have hb : bst (rkT T') (fun _ => true) [j] = (j : Int) := by
      rcases bst_spec (rkT T') (fun _ => true) [j] with ⟨_, w⟩ | ⟨i, w, w1, _⟩
      · exact absurd ⟨by simp, rfl⟩ (w j)
      · have : i = j := by simpa using w1.1
        rw [w, this]
    have hrc : RC T' (g4 (2 + k)) (.leaf j) x (fun _ => true) [x] := ⟨rfl, h1, by rw [o4.s (by omega)]; exact h2, by rw [o4.s (by omega)]; exact h3, by rw [o4.s (by omega)]; exact h4, by rw [o4.s (by omega)]; exact h5, by rw [o4.s (by omega)]; exact h6, by rw [hb, hg4]; exact gu_s _ _ _ _ _⟩
    have hfin : SV (g4 (2 + k)) (vOne (kd, s, d, ln)) := by
      refine ⟨?_, ⟨x, [x], ?_, ?_, by simp, u2.cg (o4.s (by omega)) (by simp) (fun _ => Iff.rfl)⟩, fun i hi => ?_⟩
      · rw [o4.s (by omega), o2.s (by omega), hg1, gu_s]; rfl
      · rw [hg4, gu_f (by decide)]; exact gu_s _ _ _ _ _
      · show RC (upT T00 0 kd s d ln) (g4 (2 + k)) (.leaf 0) x (fun _ => true) [x]
        rw [← hT', ← hj0]; exact hrc
      · have hi' : (1 : Nat).testBit i = true := hi
        rw [show (1 : Nat) = 2 ^ 0 from rfl, Nat.testBit_two_pow] at hi'
        have e0 : i = j := by rw [hj0]; simp at hi'; exact hi'.symm
        show _ = upT T00 0 kd s d ln 1 i ∧ _ = upT T00 0 kd s d ln 2 i ∧ _ = upT T00 0 kd s d ln 3 i ∧ _ = upT T00 0 kd s d ln 4 i
        rw [e0, ← hT']
        exact ((hJj.off o2 (fun f z w => by omega)).off o4 (fun f z w => by omega)).2.1
    exact w_iret F (by omega) (by omega) (⟨rfl, hfin, ((o1.only).tr o2.only).tr o4.only⟩) dX1_add_83
theorem ct_delayS (hE : EOk E) (hA : AhOk l E) (hH : HoOk l E) (γ : GG) {k : Nat} (hk : k < 13) {v : VV} (hv : SV (γ (2 + k)) v) (hV : VOk v) {j : Nat} (hj : v.1.testBit j = true) {d : Int} (hd : 0 ≤ d ∧ d ≤ 99) : Ct l yX1_delay cX1_delay 3 none E 800 44000 [.ref (E.ad (11 + 31 * k)), .int (iI (j : Int)), .int (iI d)] γ (fun r g => r = none ∧ SV (g (2 + k)) (v.1, upD v.2.1 j d, v.2.2) ∧ OnlyS k γ g) 2 32 := by
  refine Ct.of hE (by decide) (Nat.le_of_ble_eq_true rfl) (fun Φ hLn hΦ F hfr hlo => ?_)
  subst hLn; subst hΦ
  have h414 := F.ok.1.2.2
  have hrc := F.rc
  have hrs := F.rs
  show Wg Φ 3 _ 0 0 0 [(0, _), (1, _), (2, _)] []
  refine w_rng (fun hR => ?_)
  have hJ := hv.jt hV
  have hjt := (hV.2.1.1 j).mpr hj
  obtain ⟨v1, ⟨x, ns, hroot, hr0, hnd, hU⟩, v3⟩ := id hv
  have j1 := (hJ j hjt).1
  have hx := hr0.lt
  have hnn := nn_23 hr0 hnd
  refine w_aload_n F dX1_delay_0 rfl rfl ?_
  refine w_iload_n F dX1_delay_1 rfl ?_
  refine w_callV F (As := [_]) (ct_vacate hE hA hH γ hk hroot hr0 hnd hV.2.2 hV.2.1.2 hJ hjt rfl) (lw_V q666 q668 qs20 q71 q669) md_X1_vacate (by omega) (cell_stO (by omega)) rfl rfl rfl rfl (Nat.le_of_ble_eq_true rfl) dX1_delay_2 ⟨by omega, by omega⟩ ⟨by omega, by omega⟩ ?_
  rintro _ g1 ⟨rfl, r1, o1⟩
  refine w_aload_n F dX1_delay_5 rfl rfl ?_
  refine w_get F (by omega) (cell_stO (by omega)) rfl in_X1 6 (by decide) (Or.inl q158) rfl dX1_delay_6 ?_
  refine w_iload_n F dX1_delay_9 rfl ?_
  refine w_iload_n F dX1_delay_10 rfl ?_
  refine w_i2b F dX1_delay_11 (by omega) (by omega) ?_
  first | refine w_bastN F (aS6 _ (by omega)) (by omega) (by decide) (isP_n rfl) (by constructor <;> omega) (by omega) dX1_delay_12 ?_ | refine w_bast F (aS6 _ (by omega)) (by omega) (by decide) (isP_n rfl) (by constructor <;> omega) (by omega) (by omega) dX1_delay_12 ?_
  obtain ⟨g2, hg2⟩ : ∃ g, g = gu g1 (2 + k) 6 j d := ⟨_, rfl⟩
  rw [← hg2]
  have o2 : OffS k (fun f i => f = 6 ∧ i = j) g1 g2 := by rw [hg2]; exact OffS.rf.up ⟨rfl, rfl⟩
  obtain ⟨T', hT'⟩ : ∃ q, q = upD v.2.1 j d := ⟨_, rfl⟩
  have hTo : ∀ f i, ¬ (f = 3 ∧ i = j) → T' f i = v.2.1 f i := fun f i h => by rw [hT']; unfold upD; rw [if_neg h]
  have hJ2 : ∀ i, JC v.2.1 (γ (2 + k)) i → JC T' (g2 (2 + k)) i := fun i h0 => by
    have h1 := h0.off o1 (fun f z w => by omega)
    obtain ⟨q1, ⟨a, b, c, e⟩, c1, c2, c3, c4⟩ := h1
    by_cases ei : i = j
    · subst ei
      have e3 : T' 3 i = d := by rw [hT']; unfold upD; rw [if_pos ⟨rfl, rfl⟩]
      refine ⟨q1, ⟨by rw [hTo 1 i (by omega), o2.s (by omega)]; exact a, by rw [hTo 2 i (by omega), o2.s (by omega)]; exact b, by rw [e3, hg2]; exact gu_s _ _ _ _ _, by rw [hTo 4 i (by omega), o2.s (by omega)]; exact e⟩, by rw [hTo 1 i (by omega)]; exact c1, by rw [hTo 2 i (by omega)]; exact c2, by rw [e3]; exact hd, by rw [hTo 4 i (by omega)]; exact c4⟩
    · exact ⟨q1, ⟨by rw [hTo 1 i (by omega), o2.s (by omega)]; exact a, by rw [hTo 2 i (by omega), o2.s (by omega)]; exact b, by rw [hTo 3 i (by omega), o2.s (by omega)]; exact c, by rw [hTo 4 i (by omega), o2.s (by omega)]; exact e⟩, by rw [hTo 1 i (by omega)]; exact c1, by rw [hTo 2 i (by omega)]; exact c2, by rw [hTo 3 i (by omega)]; exact c3, by rw [hTo 4 i (by omega)]; exact c4⟩
  have hSj : wo (fun _ => true) (j : Int) j = false := by unfold wo; simp
  have r2 : RC T' (g2 (2 + k)) v.2.2 x (wo (fun _ => true) (j : Int)) ns := (r1.cgS (T' := T') (fun i _ => ⟨rfl, (hTo 2 i (by omega)).symm, fun hs => by
    have hne : i ≠ j := fun e => by rw [e, hSj] at hs; cases hs
    unfold rkT
    rw [hTo 1 i (by omega), hTo 3 i (by omega), hTo 4 i (by omega)]⟩)).cg (fun z _ f q1 q2 => o2.s (by omega))
  have hO : OrdT (keyT T') v.2.2 := ord_cg hV.2.2 (fun i hi => by unfold keyT; rw [hTo 2 i (by omega)])
  have hroot2 : g2 (2 + k) 2 0 = (x : Int) := by rw [o2.s (by omega), o1.s (by omega)]; exact hroot
  refine w_aload_n F dX1_delay_13 rfl rfl ?_
  refine w_aload_n F dX1_delay_14 rfl rfl ?_
  refine w_getF F (fS2 _ (by omega)) (by omega) rfl in_X1 (by decide) (Or.inl q151) dX1_delay_15 ?_
  refine w_toN hroot2 ?_
  refine w_iload_n F dX1_delay_18 rfl ?_
  refine w_callV F (As := [_, _]) (ct_push hE hA hk v.2.2 x (wo (fun _ => true) (j : Int)) ns j g2 r2 hnd hO hV.2.1.2 (fun i hi => hJ2 i (hJ i hi)) hjt hSj) (lw_V q439 q441 qs10 q71 q442) md_X1_push (by omega) (cell_stO (by omega)) rfl rfl rfl rfl (Nat.le_of_ble_eq_true rfl) dX1_delay_19 ⟨by omega, by omega⟩ ⟨by omega, by omega⟩ ?_
  rintro _ g3 ⟨rfl, r3, o3⟩
  have hS3 : ad1 (wo (fun _ => true) (j : Int)) j = fun _ => true := by
    funext i
    unfold ad1
    by_cases e : i = j
    · simp [e]
    · rw [wo_oth (by omega)]; rfl
  rw [hS3] at r3
  have hfin : SV (g3 (2 + k)) (v.1, upD v.2.1 j d, v.2.2) := by
    rw [← hT']
    refine ⟨by rw [o3.s (by omega), o2.s (by omega), o1.s (by omega)]; exact v1, ⟨x, ns, by rw [o3.s (by omega)]; exact hroot2, r3, hnd, hU.cg (by rw [o3.s (by omega), o2.s (by omega), o1.s (by omega)]) hnd (fun _ => Iff.rfl)⟩, fun i hi => ((hJ2 i (hv.jc hV hi)).off o3 (fun f z w => by omega)).2.1⟩
  exact w_vret F (by omega) (by omega) (⟨rfl, hfin, (o1.only.tr o2.only).tr o3.only⟩) dX1_delay_22
theorem ct_levelAll (hE : EOk E) (hA : AhOk l E) (γ : GG) {k : Nat} (hk : k < 13) {v : VV} (hv : SV (γ (2 + k)) v) (hV : VOk v) : Ct l yX1_levelAll cX1_levelAll 1 (some .int) E 800 44000 [.ref (E.ad (11 + 31 * k))] γ (fun r g => r = some (.int (iI (dmax (bld (keyT v.2.1) (tl v.2.2)) : Int))) ∧ SV (g (2 + k)) (v.1, v.2.1, bld (keyT v.2.1) (tl v.2.2)) ∧ OnlyS k γ g) 0 0 := by
  refine Ct.of hE (by decide) (Nat.le_of_ble_eq_true rfl) (fun Φ hLn hΦ F hfr hlo => ?_)
  subst hLn; subst hΦ
  have h414 := F.ok.1.2.2
  have hrc := F.rc
  have hrs := F.rs
  show Wg Φ 1 _ 0 0 0 [(0, _)] []
  refine w_rng (fun hR => ?_)
  have hJ := hv.jt hV
  obtain ⟨v1, ⟨x, ns, hroot, hr0, hnd, hU⟩, v3⟩ := id hv
  have hx := hr0.lt
  have htb : tl (bld (keyT v.2.1) (tl v.2.2)) = tl v.2.2 := tl_bld _ _ _ rfl (tl_pos _)
  have h12 := hV.2.1.len hV.1.1
  refine w_aload_n F dX1_levelAll_0 rfl rfl ?_
  refine w_aload_n F dX1_levelAll_1 rfl rfl ?_
  refine w_aload_n F dX1_levelAll_2 rfl rfl ?_
  refine w_getF F (fS2 _ (by omega)) (by omega) rfl in_X1 (by decide) (Or.inl q151) dX1_levelAll_3 ?_
  refine w_toN hroot ?_
  refine w_callV F (As := [_]) (ct_levelled hE hA γ hk hr0 hnd hV.2.2 hV.2.1.2 hJ hU (fun z hz => hz)) (lw_V q508 q510 qs12 q71 q511) md_X1_levelled (by omega) (cell_stO (by omega)) rfl rfl rfl rfl (Nat.le_of_ble_eq_true rfl) dX1_levelAll_6 ⟨by omega, by omega⟩ ⟨by omega, by omega⟩ ?_
  rintro _ g1 ⟨x', ns', rfl, r1, d1, i1, u1, o1⟩
  have hx' := r1.lt
  have hnn := nn_23 r1 d1
  refine w_frN ?_
  refine w_putF F (val := vN _ _) (fS2 _ (by omega)) (by omega) rfl in_X1 tyX1 tyX1_ok nmX1 (by decide) (Or.inl q151) rfl (by first | rfl | exact nar_rf _ _) (by first | rfl | exact fit_rf _ _) (by first | assumption | exact inR0 | exact (hR _ _ _).1 | (constructor <;> omega)) (noB rfl) (fun _ => by constructor <;> omega) dX1_levelAll_9 ?_
  refine w_aload_n F dX1_levelAll_12 rfl rfl ?_
  refine w_aload_n F dX1_levelAll_13 rfl rfl ?_
  refine w_getF F (fS2 _ (by omega)) (by omega) rfl in_X1 (by decide) (Or.inl q151) dX1_levelAll_14 ?_
  refine w_toN (j := x') (gu_s _ _ _ _ _) ?_
  obtain ⟨g2, hg2⟩ : ∃ g, g = gu g1 (2 + k) 2 0 (x' : Int) := ⟨_, rfl⟩
  rw [← hg2]
  have o2 : OffS k (fun f i => f = 2 ∧ i = 0) g1 g2 := by rw [hg2]; exact OffS.rf.up ⟨rfl, rfl⟩
  have r2 := r1.cg (σ' := g2 (2 + k)) (fun z _ f q1 q2 => o2.s (by omega))
  refine w_callV F (As := [_]) (ct_deepestC hE hk g2 (bld (keyT v.2.1) (tl v.2.2)) x' _ ns' r2 (by rw [htb]; exact h12)) (lw_V q701 q702 q703 q71 q704) md_X1_deepest (by omega) (cell_stO (by omega)) rfl rfl rfl rfl (Nat.le_of_ble_eq_true rfl) dX1_levelAll_17 ⟨by omega, by omega⟩ ⟨by omega, by omega⟩ ?_
  rintro _ _ ⟨rfl, rfl⟩
  have hfin : SV (g2 (2 + k)) (v.1, v.2.1, bld (keyT v.2.1) (tl v.2.2)) := by
    refine ⟨by rw [o2.s (by omega), o1.s (by unfold offV; omega)]; exact v1, ⟨x', ns', by rw [hg2]; exact gu_s _ _ _ _ _, r2, d1, u1.cg (o2.s (by omega)) d1 (fun z => ?_)⟩, fun i hi => (((hv.jc hV hi).ofV o1).off o2 (fun f z w => by omega)).2.1⟩
    rw [List.mem_append, rmv_mem]
    constructor
    · rintro (q | q)
      · exact q
      · exact absurd q.1 q.2
    · exact Or.inl
  exact w_iret F (by omega) (by omega) (⟨rfl, hfin, o1.only.tr o2.only⟩) dX1_levelAll_20
end S9
