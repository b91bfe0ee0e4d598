/-! DeadlineTree: count -/
theorem nNone_c : ∀ L : List Int, nNone L = L.count (-4)
  | [] => rfl
  | z :: r => by
    rw [List.count_cons, ← nNone_c r]
    by_cases h : z = -4 <;> simp [nNone, h]
section D8
variable {l : Launch} {E : EE}
theorem ct_countD (hE : EOk E) (γ : GG) {v : VV} {vu vk : List VV} (hF : DF γ v vu vk) (hV : VOk v) {w : Int} (hw : InR w) : Ct l yX0_count cX0_count 2 (some .int) E 700 40000 [.ref (E.ad 0), .int (iI w)] γ (pI (qCount v vu.length vk.length (γ 1 8 0) w) γ) 0 0 := by
  refine Ct.of hE (by decide) (Nat.le_of_ble_eq_true rfl) (fun Φ hLn hΦ F hfr hlo => ?_)
  subst hLn; subst hΦ
  have h414 := F.ok.1.2.2
  have hrc := F.rc
  have hrs := F.rs
  show Wg Φ 2 _ 0 0 0 [(0, _), (1, _)] []
  refine w_rng (fun hR => ?_)
  have hv := hF.1
  have hJ := hv.jt hV
  obtain ⟨v1, ⟨x, ns, hroot, hr0, hnd, hU⟩, v3⟩ := id hv
  have hx := hr0.lt
  have hnn := nn_23 hr0 hnd
  have h12 := hV.2.1.len hV.1.1
  have hb2 := hV.1.1
  have hc := cnt_le v.1 12
  by_cases h : 0 ≤ w ∧ w ≤ 7
  · rcases (show w = 0 ∨ w = 1 ∨ w = 2 ∨ w = 3 ∨ w = 4 ∨ w = 5 ∨ w = 6 ∨ w = 7 by omega) with rfl | rfl | rfl | rfl | rfl | rfl | rfl | rfl
    · skip
      refine w_iload_n F dX0_count_0 rfl ?_
      refine w_tabIn F (z := 0) (tgt := 48) dX0_count_1 (by first | assumption | exact inR0 | exact (hR _ _ _).1 | (constructor <;> omega)) (by decide) (by decide) rfl (by decide) ?_
      refine w_aload_n F dX0_count_48 rfl rfl ?_
      refine w_get F (by omega) rfl rfl in_X0 2 (by decide) (Or.inl q542) rfl dX0_count_49 ?_
      refine w_callV F (As := []) (ct_manyS hE γ (k := 1) (by omega) v1 hb2) (lw_V q396 q397 q398 q71 q399) md_X1_many (by omega) (cell_stO (by omega)) rfl rfl rfl rfl (Nat.le_of_ble_eq_true rfl) dX0_count_52 ⟨by omega, by omega⟩ ⟨by omega, by omega⟩ ?_
      rintro _ _ ⟨rfl, rfl⟩
      exact w_iret F (by omega) (by omega) (⟨rfl, rfl⟩) dX0_count_55
    · skip
      refine w_iload_n F dX0_count_0 rfl ?_
      refine w_tabIn F (z := 1) (tgt := 56) dX0_count_1 (by first | assumption | exact inR0 | exact (hR _ _ _).1 | (constructor <;> omega)) (by decide) (by decide) rfl (by decide) ?_
      refine w_aload_n F dX0_count_56 rfl rfl ?_
      refine w_get F (by omega) rfl rfl in_X0 2 (by decide) (Or.inl q542) rfl dX0_count_57 ?_
      refine w_getF F (fS0 _ (by omega)) (by omega) rfl in_X1 (by decide) (Or.inr q149) dX0_count_60 ?_
      refine w_top (z' := (v.1 : Int)) v1 ?_
      exact w_iret F (by omega) (by omega) (⟨rfl, rfl⟩) dX0_count_63
    · skip
      refine w_iload_n F dX0_count_0 rfl ?_
      refine w_tabIn F (z := 2) (tgt := 64) dX0_count_1 (by first | assumption | exact inR0 | exact (hR _ _ _).1 | (constructor <;> omega)) (by decide) (by decide) rfl (by decide) ?_
      refine w_iconst F dX0_count_64 ?_
      refine w_aload_n F dX0_count_65 rfl rfl ?_
      refine w_get F (by omega) rfl rfl in_X0 2 (by decide) (Or.inl q542) rfl dX0_count_66 ?_
      refine w_callV F (As := []) (ct_manyS hE γ (k := 1) (by omega) v1 hb2) (lw_V q396 q397 q398 q71 q399) md_X1_many (by omega) (cell_stO (by omega)) rfl rfl rfl rfl (Nat.le_of_ble_eq_true rfl) dX0_count_69 ⟨by omega, by omega⟩ ⟨by omega, by omega⟩ ?_
      rintro _ _ ⟨rfl, rfl⟩
      refine w_imul F dX0_count_72 ?_
      refine w_iconst F dX0_count_73 ?_
      refine w_isub F dX0_count_74 ?_
      exact w_iret F (by omega) (by omega) (⟨rfl, rfl⟩) dX0_count_75
    · skip
      refine w_iload_n F dX0_count_0 rfl ?_
      refine w_tabIn F (z := 3) (tgt := 76) dX0_count_1 (by first | assumption | exact inR0 | exact (hR _ _ _).1 | (constructor <;> omega)) (by decide) (by decide) rfl (by decide) ?_
      refine w_aload_n F dX0_count_76 rfl rfl ?_
      refine w_get F (by omega) rfl rfl in_X0 2 (by decide) (Or.inl q542) rfl dX0_count_77 ?_
      refine w_aload_n F dX0_count_80 rfl rfl ?_
      refine w_get F (by omega) rfl rfl in_X0 2 (by decide) (Or.inl q542) rfl dX0_count_81 ?_
      refine w_getF F (fS2 _ (by omega)) (by omega) rfl in_X1 (by decide) (Or.inr q152) dX0_count_84 ?_
      refine w_toN (j := x) hroot ?_
      refine w_callV F (As := [_]) (ct_deepestC hE (k := 1) (by omega) γ v.2.2 x _ ns hr0 h12) (lw_V q811 q702 q703 q71 q704) md_X1_deepest (by omega) (cell_stO (by omega)) rfl rfl rfl rfl (Nat.le_of_ble_eq_true rfl) dX0_count_87 ⟨by omega, by omega⟩ ⟨by omega, by omega⟩ ?_
      rintro _ _ ⟨rfl, rfl⟩
      exact w_iret F (by omega) (by omega) (⟨rfl, rfl⟩) dX0_count_90
    · skip
      refine w_iload_n F dX0_count_0 rfl ?_
      refine w_tabIn F (z := 4) (tgt := 91) dX0_count_1 (by first | assumption | exact inR0 | exact (hR _ _ _).1 | (constructor <;> omega)) (by decide) (by decide) rfl (by decide) ?_
      refine w_aload_n F dX0_count_91 rfl rfl ?_
      refine w_aload_n F dX0_count_92 rfl rfl ?_
      refine w_get F (by omega) rfl rfl in_X0 2 (by decide) (Or.inl q542) rfl dX0_count_93 ?_
      refine w_getF F (fS2 _ (by omega)) (by omega) rfl in_X1 (by decide) (Or.inr q152) dX0_count_96 ?_
      refine w_toN (j := x) hroot ?_
      refine w_callV F (As := [_]) (ct_vacant hE (k := 1) (by omega) γ v.2.2 x _ ns hr0 hnn (fun i hi => (hJ i hi).1)) (lw_V q812 q814 qs33 q70 q815) md_X0_vacant (by omega) rfl rfl rfl rfl rfl (Nat.le_of_ble_eq_true rfl) dX0_count_99 ⟨by omega, by omega⟩ ⟨by omega, by omega⟩ ?_
      rintro _ _ ⟨rfl, rfl⟩
      exact w_iret F (by omega) (by omega) (⟨by rw [← nNone_c]; rfl, rfl⟩) dX0_count_102
    · skip
      refine w_iload_n F dX0_count_0 rfl ?_
      refine w_tabIn F (z := 5) (tgt := 103) dX0_count_1 (by first | assumption | exact inR0 | exact (hR _ _ _).1 | (constructor <;> omega)) (by decide) (by decide) rfl (by decide) ?_
      refine w_aload_n F dX0_count_103 rfl rfl ?_
      refine w_getF F (fD7 _) (by omega) rfl in_X0 (by decide) (Or.inl q547) dX0_count_104 ?_
      refine w_top (z' := (vu.length : Int)) hF.2.2.1 ?_
      exact w_iret F (by omega) (by omega) (⟨rfl, rfl⟩) dX0_count_107
    · skip
      refine w_iload_n F dX0_count_0 rfl ?_
      refine w_tabIn F (z := 6) (tgt := 108) dX0_count_1 (by first | assumption | exact inR0 | exact (hR _ _ _).1 | (constructor <;> omega)) (by decide) (by decide) rfl (by decide) ?_
      refine w_aload_n F dX0_count_108 rfl rfl ?_
      refine w_getF F (fD5 _) (by omega) rfl in_X0 (by decide) (Or.inl q545) dX0_count_109 ?_
      refine w_top (z' := (vk.length : Int)) hF.2.2.2.2.2.1 ?_
      exact w_iret F (by omega) (by omega) (⟨rfl, rfl⟩) dX0_count_112
    · skip
      refine w_iload_n F dX0_count_0 rfl ?_
      refine w_tabIn F (z := 7) (tgt := 113) dX0_count_1 (by first | assumption | exact inR0 | exact (hR _ _ _).1 | (constructor <;> omega)) (by decide) (by decide) rfl (by decide) ?_
      refine w_aload_n F dX0_count_113 rfl rfl ?_
      refine w_getF F (fD8 _) (by omega) rfl in_X0 (by decide) (Or.inl q548) dX0_count_114 ?_
      exact w_iret F (by omega) (by omega) (⟨rfl, rfl⟩) dX0_count_117
  · skip
    refine w_iload_n F dX0_count_0 rfl ?_
    refine w_tabOut F (tgt := 118) dX0_count_1 (by first | assumption | exact inR0 | exact (hR _ _ _).1 | (constructor <;> omega)) (by omega) (by decide) ?_
    refine w_iconst F dX0_count_118 ?_
    exact w_iret F (by omega) (by omega) (⟨by unfold qCount; rw [if_neg (by omega), if_neg (by omega), if_neg (by omega), if_neg (by omega), if_neg (by omega), if_neg (by omega), if_neg (by omega), if_neg (by omega)], rfl⟩) dX0_count_119
end D8
