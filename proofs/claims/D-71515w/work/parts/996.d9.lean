/-! DeadlineTree: job -/
section D9
variable {l : Launch} {E : EE}
theorem ct_jobD (hE : EOk E) (γ : GG) {v : VV} {vu vk : List VV} (hF : DF γ v vu vk) (hV : VOk v) {j w : Int} (hj : InR j) (hw : InR w) : Ct l yX0_job cX0_job 5 (some .int) E 700 40000 [.ref (E.ad 0), .int (iI j), .int (iI w)] γ (fun r g => γ = g ∧ ((¬ (isJobP v.1 j ∧ 0 ≤ w ∧ w ≤ 6) ∧ r = some (.int (iI (-1)))) ∨ (isJobP v.1 j ∧ (0 ≤ w ∧ w ≤ 6) ∧ r = some (.int (iI (qJob v j.toNat w)))))) 0 0 := by
  refine Ct.of hE (by decide) (Nat.le_of_ble_eq_true rfl) (fun Φ hLn hΦ F hfr hlo => ?_)
  subst hLn; subst hΦ
  have h414 := F.ok.1.2.2
  have hrc := F.rc
  have hrs := F.rs
  show Wg Φ 5 _ 0 0 0 [(0, _), (1, _), (2, _)] []
  refine w_rng (fun hR => ?_)
  have hv := hF.1
  have hJ := hv.jt hV
  obtain ⟨v1, ⟨x, ns, hroot, hr0, hnd, hU⟩, v3⟩ := id hv
  have hb2 := hV.1.1
  have no : ¬ (isJobP v.1 j ∧ 0 ≤ w ∧ w ≤ 6) → Wg Φ 5 γ 0 0 20 [(0, .ref (Φ.E.ad 0)), (1, .int (iI j)), (2, .int (iI w))] [] := by
    intro hn
    refine w_iconst F dX0_job_20 ?_
    exact w_iret F (by omega) (by omega) (⟨rfl, Or.inl ⟨hn, rfl⟩⟩) dX0_job_21
  refine w_aload_n F dX0_job_0 rfl rfl ?_
  refine w_iload_n F dX0_job_1 rfl ?_
  refine w_callV F (As := [_]) (ct_isJobD hE γ v1 hb2 hj) (lw_V q600 q602 qs18 q70 q603) md_X0_isJob (by omega) rfl rfl rfl rfl rfl (Nat.le_of_ble_eq_true rfl) dX0_job_2 ⟨by omega, by omega⟩ ⟨by omega, by omega⟩ ?_
  rintro _ _ ⟨rfl, rfl⟩
  refine w_if_eq F (tgt := 20) dX0_job_5 (by decide) (b2i_R _) (fun h => ?_) (fun h => ?_)
  · rw [b2i_0] at h
    exact no (fun q => h q.1)
  · rw [b2i_n0] at h
    refine w_iload_n F dX0_job_8 rfl ?_
    refine w_i2l F dX0_job_9 (by first | assumption | exact inR0 | exact (hR _ _ _).1 | (constructor <;> omega)) ?_
    refine w_lconst F dX0_job_10 ?_
    refine w_topL (z' := 0) rfl ?_
    refine w_ldc2 F q608 dX0_job_11 ?_
    refine w_topL (z' := 6) rfl ?_
    refine w_callS F (As := [_, _, _]) (ct_isIn hE γ hw inR0 (by decide)) (lw_S q279 q280 q70 q281) md_X0_isIn rfl rfl (Nat.le_of_ble_eq_true rfl) dX0_job_14 ⟨by omega, by omega⟩ ⟨by omega, by omega⟩ ?_
    rintro _ _ ⟨rfl, rfl⟩
    refine w_if_ne F (tgt := 22) dX0_job_17 (by decide) (b2i_R _) (fun h2 => ?_) (fun h2 => ?_)
    · rw [b2i_n0] at h2
      obtain ⟨i, rfl⟩ : ∃ i : Nat, j = (i : Int) := ⟨j.toNat, by omega⟩
      have hi : v.1.testBit i = true := by simpa using h.2.2
      have hit := (hV.2.1.1 i).mpr hi
      have hJi := hv.jc hV hi
      have i1 := hJi.1
      obtain ⟨s1, s2, s3, s4⟩ := v3 i hi
      have bi := hJi.2.2.2.1
      rcases (show w = 0 ∨ w = 1 ∨ w = 2 ∨ w = 3 ∨ w = 4 ∨ w = 5 ∨ w = 6 by omega) with rfl | rfl | rfl | rfl | rfl | rfl | rfl
      · skip
        refine w_iload_n F dX0_job_22 rfl ?_
        refine w_tabIn F (z := 0) (tgt := 56) dX0_job_23 (by first | assumption | exact inR0 | exact (hR _ _ _).1 | (constructor <;> omega)) (by decide) (by decide) rfl (by decide) ?_
        refine w_aload_n F dX0_job_56 rfl rfl ?_
        refine w_get F (by omega) rfl rfl in_X0 2 (by decide) (Or.inl q542) rfl dX0_job_57 ?_
        refine w_get F (by omega) (cell_stO (by omega)) rfl in_X1 4 (by decide) (Or.inr q155) rfl dX0_job_60 ?_
        refine w_iload_n F dX0_job_63 rfl ?_
        first | refine w_baldN F (aS4 _ (by omega)) (by omega) (by decide) (by omega) dX0_job_64 ?_ | refine w_bald F (aS4 _ (by omega)) (by omega) (by decide) (by omega) (by omega) dX0_job_64 ?_
        refine w_top (z' := v.2.1 1 i) s1 ?_
        exact w_iret F (by omega) (by omega) (⟨rfl, Or.inr ⟨h, h2, rfl⟩⟩) dX0_job_65
      · skip
        refine w_iload_n F dX0_job_22 rfl ?_
        refine w_tabIn F (z := 1) (tgt := 66) dX0_job_23 (by first | assumption | exact inR0 | exact (hR _ _ _).1 | (constructor <;> omega)) (by decide) (by decide) rfl (by decide) ?_
        refine w_aload_n F dX0_job_66 rfl rfl ?_
        refine w_get F (by omega) rfl rfl in_X0 2 (by decide) (Or.inl q542) rfl dX0_job_67 ?_
        refine w_get F (by omega) (cell_stO (by omega)) rfl in_X1 5 (by decide) (Or.inr q157) rfl dX0_job_70 ?_
        refine w_iload_n F dX0_job_73 rfl ?_
        first | refine w_baldN F (aS5 _ (by omega)) (by omega) (by decide) (by omega) dX0_job_74 ?_ | refine w_bald F (aS5 _ (by omega)) (by omega) (by decide) (by omega) (by omega) dX0_job_74 ?_
        refine w_top (z' := v.2.1 2 i) s2 ?_
        exact w_iret F (by omega) (by omega) (⟨rfl, Or.inr ⟨h, h2, rfl⟩⟩) dX0_job_75
      · skip
        refine w_iload_n F dX0_job_22 rfl ?_
        refine w_tabIn F (z := 2) (tgt := 76) dX0_job_23 (by first | assumption | exact inR0 | exact (hR _ _ _).1 | (constructor <;> omega)) (by decide) (by decide) rfl (by decide) ?_
        refine w_aload_n F dX0_job_76 rfl rfl ?_
        refine w_get F (by omega) rfl rfl in_X0 2 (by decide) (Or.inl q542) rfl dX0_job_77 ?_
        refine w_get F (by omega) (cell_stO (by omega)) rfl in_X1 6 (by decide) (Or.inr q159) rfl dX0_job_80 ?_
        refine w_iload_n F dX0_job_83 rfl ?_
        first | refine w_baldN F (aS6 _ (by omega)) (by omega) (by decide) (by omega) dX0_job_84 ?_ | refine w_bald F (aS6 _ (by omega)) (by omega) (by decide) (by omega) (by omega) dX0_job_84 ?_
        refine w_top (z' := v.2.1 3 i) s3 ?_
        exact w_iret F (by omega) (by omega) (⟨rfl, Or.inr ⟨h, h2, rfl⟩⟩) dX0_job_85
      · skip
        refine w_iload_n F dX0_job_22 rfl ?_
        refine w_tabIn F (z := 3) (tgt := 86) dX0_job_23 (by first | assumption | exact inR0 | exact (hR _ _ _).1 | (constructor <;> omega)) (by decide) (by decide) rfl (by decide) ?_
        refine w_aload_n F dX0_job_86 rfl rfl ?_
        refine w_get F (by omega) rfl rfl in_X0 2 (by decide) (Or.inl q542) rfl dX0_job_87 ?_
        refine w_get F (by omega) (cell_stO (by omega)) rfl in_X1 7 (by decide) (Or.inr q161) rfl dX0_job_90 ?_
        refine w_iload_n F dX0_job_93 rfl ?_
        first | refine w_baldN F (aS7 _ (by omega)) (by omega) (by decide) (by omega) dX0_job_94 ?_ | refine w_bald F (aS7 _ (by omega)) (by omega) (by decide) (by omega) (by omega) dX0_job_94 ?_
        refine w_top (z' := v.2.1 4 i) s4 ?_
        exact w_iret F (by omega) (by omega) (⟨rfl, Or.inr ⟨h, h2, rfl⟩⟩) dX0_job_95
      · skip
        refine w_iload_n F dX0_job_22 rfl ?_
        refine w_tabIn F (z := 4) (tgt := 96) dX0_job_23 (by first | assumption | exact inR0 | exact (hR _ _ _).1 | (constructor <;> omega)) (by decide) (by decide) rfl (by decide) ?_
        refine w_aload_n F dX0_job_96 rfl rfl ?_
        refine w_get F (by omega) rfl rfl in_X0 2 (by decide) (Or.inl q542) rfl dX0_job_97 ?_
        refine w_iload_n F dX0_job_100 rfl ?_
        refine w_callV F (As := [_]) (ct_rankS hE γ (k := 1) (j := i) (by omega) hJi) (lw_V q609 q448 q449 q71 q450) md_X1_rank (by omega) (cell_stO (by omega)) rfl rfl rfl rfl (Nat.le_of_ble_eq_true rfl) dX0_job_101 ⟨by omega, by omega⟩ ⟨by omega, by omega⟩ ?_
        rintro _ _ ⟨rfl, rfl⟩
        exact w_iret F (by omega) (by omega) (⟨rfl, Or.inr ⟨h, h2, rfl⟩⟩) dX0_job_104
      · have loop : ∀ (u : TT) (y m : Nat) (S : Nat → Bool) (nu : List Nat), RC v.2.1 (γ 3) u y S nu → OrdT (keyT v.2.1) u → (∀ q ∈ tl u, q < 12) → i ∈ tl u → S i = true → m + nn u ≤ 100 → m + dph (rkT v.2.1) (keyT v.2.1 i) i u S = dph (rkT v.2.1) (keyT v.2.1 i) i v.2.2 (fun _ => true) → Wg Φ 5 γ 0 0 116 [(0, .ref (Φ.E.ad 0)), (1, .int (iI (i : Int))), (2, .int (iI 5)), (3, .int (iI (m : Int))), (4, .ref (Φ.E.ad (19 + 31 * 1 + y)))] [] := by
          intro u
          induction u with
          | leaf q =>
            intro y m S nu a1 a2 a3 a4 a5 a6 a7
            have hy := a1.lt
            have e : i = q := by simpa [tl] using a4
            have hb : bst (rkT v.2.1) S [q] = (i : Int) := by
              rcases (bst_spec (rkT v.2.1) S [q]) with ⟨_, w1⟩ | ⟨z, w0, w1, _⟩
              · exact absurd ⟨by simp, e ▸ a5⟩ (w1 q)
              · have : z = q := by simpa using w1.1
                rw [w0, this, e]
            refine w_iload_n F dX0_job_116 rfl ?_
            refine w_iconst F dX0_job_117 ?_
            refine w_icmp_ne F (tgt := 133) dX0_job_118 (by decide) (by first | assumption | exact inR0 | exact (hR _ _ _).1 | (constructor <;> omega)) (by first | assumption | exact inR0 | exact (hR _ _ _).1 | (constructor <;> omega)) (fun h5 => ?_) (fun h5 => ?_)
            · omega
            · refine w_aload F dX0_job_121 rfl rfl ?_
              refine w_getF F (fN5 _ (by omega) (by omega)) (by omega) rfl in_X2 (by decide) (Or.inr q127) dX0_job_123 ?_
              refine w_top (z' := (i : Int)) (by show γ 3 25 y = _; rw [a1.hold]; exact hb) ?_
              refine w_iload_n F dX0_job_126 rfl ?_
              refine w_icmp_eq F (tgt := 164) dX0_job_127 (by decide) (by first | assumption | exact inR0 | exact (hR _ _ _).1 | (constructor <;> omega)) (by first | assumption | exact inR0 | exact (hR _ _ _).1 | (constructor <;> omega)) (fun h6 => ?_) (fun h6 => ?_)
              · refine w_iload_n F dX0_job_164 rfl ?_
                refine w_top (z' := qJob v i 5) (by show (m : Int) = ((dph (rkT v.2.1) (keyT v.2.1 i) i v.2.2 (fun _ => true) : Nat) : Int); rw [← a7]; simp [dph]) ?_
                exact w_iret F (by omega) (by omega) (⟨rfl, Or.inr ⟨h, h2, rfl⟩⟩) dX0_job_165
              · omega
          | branch s a b iha ihb =>
            intro y m S nu a1 a2 a3 a4 a5 a6 a7
            have hy := a1.lt
            obtain ⟨xa, xb, na, nb, e, h1, h2', h3, h4, h5, h6, h7, h8⟩ := id a1
            obtain ⟨p1, p2, _, _, p5, p6⟩ := id a2
            have hnn : nn (.branch s a b) = 1 + nn a + nn b := rfl
            have hrg : -4 ≤ bst (rkT v.2.1) S (tl a ++ tl b) ∧ bst (rkT v.2.1) S (tl a ++ tl b) < 12 := by
              rcases (bst_spec (rkT v.2.1) S (tl a ++ tl b)).in with w1 | ⟨z, w1, w2⟩
              · omega
              · have := a3 z w2.1; omega
            have hgl := gl_key (γ := γ) (k := 1) (x := y) (T := v.2.1) (s := s) (j := i) h4 i1 bi.1
            refine w_iload_n F dX0_job_116 rfl ?_
            refine w_iconst F dX0_job_117 ?_
            refine w_icmp_ne F (tgt := 133) dX0_job_118 (by decide) (by first | assumption | exact inR0 | exact (hR _ _ _).1 | (constructor <;> omega)) (by first | assumption | exact inR0 | exact (hR _ _ _).1 | (constructor <;> omega)) (fun h9 => ?_) (fun h9 => ?_)
            · omega
            · refine w_aload F dX0_job_121 rfl rfl ?_
              refine w_getF F (fN5 _ (by omega) (by omega)) (by omega) rfl in_X2 (by decide) (Or.inr q127) dX0_job_123 ?_
              refine w_top (z' := bst (rkT v.2.1) S (tl a ++ tl b)) h6 ?_
              refine w_iload_n F dX0_job_126 rfl ?_
              refine w_icmp_eq F (tgt := 164) dX0_job_127 (by decide) (by first | assumption | exact inR0 | exact (hR _ _ _).1 | (constructor <;> omega)) (by first | assumption | exact inR0 | exact (hR _ _ _).1 | (constructor <;> omega)) (fun h10 => ?_) (fun h10 => ?_)
              · refine w_iload_n F dX0_job_164 rfl ?_
                refine w_top (z' := qJob v i 5) (by show (m : Int) = ((dph (rkT v.2.1) (keyT v.2.1 i) i v.2.2 (fun _ => true) : Nat) : Int); rw [← a7]; simp only [dph]; rw [if_pos h10]; simp) ?_
                exact w_iret F (by omega) (by omega) (⟨rfl, Or.inr ⟨h, h2, rfl⟩⟩) dX0_job_165
              · have hwi : wo S (bst (rkT v.2.1) S (tl a ++ tl b)) i = true := by rw [wo_oth (fun q => h10 q.symm)]; exact a5
                simp only [dph] at a7
                rw [if_neg h10] at a7
                refine w_goto F (tgt := 141) dX0_job_130 (by decide) ?_
                refine w_iinc F dX0_job_141 rfl (by decide) rfl (lv' := [(0, _), (1, _), (2, _), (3, _), (4, _)]) rfl ?_
                refine w_aload F dX0_job_144 rfl rfl ?_
                refine w_aload_n F dX0_job_146 rfl rfl ?_
                refine w_get F (by omega) rfl rfl in_X0 2 (by decide) (Or.inl q542) rfl dX0_job_147 ?_
                refine w_get F (by omega) (cell_stO (by omega)) rfl in_X1 5 (by decide) (Or.inr q157) rfl dX0_job_150 ?_
                refine w_iload_n F dX0_job_153 rfl ?_
                first | refine w_baldN F (aS5 _ (by omega)) (by omega) (by decide) (by omega) dX0_job_154 ?_ | refine w_bald F (aS5 _ (by omega)) (by omega) (by decide) (by omega) (by omega) dX0_job_154 ?_
                refine w_top (z' := v.2.1 2 i) s2 ?_
                refine w_iload_n F dX0_job_155 rfl ?_
                refine w_callV F (As := [_, _]) (ct_partN hE γ (k := 1) (by omega) hy (s := v.2.1 2 i) (j := (i : Int)) (by omega) (by omega)) (lw_V q611 q431 q432 q72 q433) md_X2_part (by omega) (cell_nd (by omega) (by omega)) rfl rfl rfl rfl (Nat.le_of_ble_eq_true rfl) dX0_job_156 ⟨by omega, by omega⟩ ⟨by omega, by omega⟩ ?_
                rintro _ _ ⟨rfl, rfl⟩
                by_cases hc : keyT v.2.1 i ≤ s
                · rw [if_pos (hgl.mpr hc)]
                  rw [if_pos hc] at a7
                  refine w_toN (j := xa) h2' ?_
                  refine w_astore F dX0_job_159 (by decide) rfl (lv' := [(0, _), (1, _), (2, _), (3, _), (4, _)]) rfl rfl ?_
                  refine w_goto F (tgt := 116) dX0_job_161 (by decide) ?_
                  refine iha xa (m + 1) _ na h7 p5 (fun q hq => a3 q (List.mem_append_left _ hq)) ?_ hwi (by omega) (by omega)
                  rcases List.mem_append.mp a4 with w1 | w1
                  · exact w1
                  · have := p2 i w1; omega
                · rw [if_neg (fun q => hc (hgl.mp q))]
                  rw [if_neg hc] at a7
                  refine w_toN (j := xb) h3 ?_
                  refine w_astore F dX0_job_159 (by decide) rfl (lv' := [(0, _), (1, _), (2, _), (3, _), (4, _)]) rfl rfl ?_
                  refine w_goto F (tgt := 116) dX0_job_161 (by decide) ?_
                  refine ihb xb (m + 1) _ nb h8 p6 (fun q hq => a3 q (List.mem_append_right _ hq)) ?_ hwi (by omega) (by omega)
                  rcases List.mem_append.mp a4 with w1 | w1
                  · have := p1 i w1; omega
                  · exact w1
        refine w_iload_n F dX0_job_22 rfl ?_
        refine w_tabOut F (tgt := 105) dX0_job_23 (by first | assumption | exact inR0 | exact (hR _ _ _).1 | (constructor <;> omega)) (by omega) (by decide) ?_
        refine w_iconst F dX0_job_105 ?_
        refine w_istore_n F dX0_job_106 (by decide) rfl (lv' := [(0, _), (1, _), (2, _), (3, _)]) rfl ?_
        refine w_aload_n F dX0_job_107 rfl rfl ?_
        refine w_get F (by omega) rfl rfl in_X0 2 (by decide) (Or.inl q542) rfl dX0_job_108 ?_
        refine w_getF F (fS2 _ (by omega)) (by omega) rfl in_X1 (by decide) (Or.inr q152) dX0_job_111 ?_
        refine w_toN (j := x) hroot ?_
        refine w_astore F dX0_job_114 (by decide) rfl (lv' := [(0, _), (1, _), (2, _), (3, _), (4, _)]) rfl rfl ?_
        exact loop v.2.2 x 0 _ ns hr0 hV.2.2 (fun q hq => (hJ q hq).1) hit rfl (by have := nn_23 hr0 hnd; omega) (by omega)
      · have loop : ∀ (u : TT) (y m : Nat) (S : Nat → Bool) (nu : List Nat), RC v.2.1 (γ 3) u y S nu → m + nn u ≤ 100 → m + dpt (keyT v.2.1 i) u = dpt (keyT v.2.1 i) v.2.2 → Wg Φ 5 γ 0 0 116 [(0, .ref (Φ.E.ad 0)), (1, .int (iI (i : Int))), (2, .int (iI 6)), (3, .int (iI (m : Int))), (4, .ref (Φ.E.ad (19 + 31 * 1 + y)))] [] := by
          intro u
          induction u with
          | leaf q =>
            intro y m S nu a1 a6 a7
            have hy := a1.lt
            have l2 := a1.2.2.1
            refine w_iload_n F dX0_job_116 rfl ?_
            refine w_iconst F dX0_job_117 ?_
            refine w_icmp_ne F (tgt := 133) dX0_job_118 (by decide) (by first | assumption | exact inR0 | exact (hR _ _ _).1 | (constructor <;> omega)) (by first | assumption | exact inR0 | exact (hR _ _ _).1 | (constructor <;> omega)) (fun h5 => ?_) (fun h5 => ?_)
            · refine w_aload F dX0_job_133 rfl rfl ?_
              refine w_callV F (As := []) (ct_isLeafN hE γ (k := 1) (by omega) hy) (lw_V q610 q423 q424 q72 q425) md_X2_isLeaf (by omega) (cell_nd (by omega) (by omega)) rfl rfl rfl rfl (Nat.le_of_ble_eq_true rfl) dX0_job_135 ⟨by omega, by omega⟩ ⟨by omega, by omega⟩ ?_
              rintro _ _ ⟨rfl, rfl⟩
              refine w_if_ne F (tgt := 164) dX0_job_138 (by decide) (b2i_R _) (fun h6 => ?_) (fun h6 => ?_)
              · refine w_iload_n F dX0_job_164 rfl ?_
                refine w_top (z' := qJob v i 6) (by show (m : Int) = ((dpt (keyT v.2.1 i) v.2.2 : Nat) : Int); rw [← a7]; simp [dpt]) ?_
                exact w_iret F (by omega) (by omega) (⟨rfl, Or.inr ⟨h, h2, rfl⟩⟩) dX0_job_165
              · rw [b2i_0] at h6
                exact absurd (show γ 3 21 y < 0 by omega) h6
            · omega
          | branch s a b iha ihb =>
            intro y m S nu a1 a6 a7
            have hy := a1.lt
            obtain ⟨xa, xb, na, nb, e, h1, h2', h3, h4, h5, h6, h7, h8⟩ := id a1
            have hnn : nn (.branch s a b) = 1 + nn a + nn b := rfl
            have hgl := gl_key (γ := γ) (k := 1) (x := y) (T := v.2.1) (s := s) (j := i) h4 i1 bi.1
            simp only [dpt] at a7
            refine w_iload_n F dX0_job_116 rfl ?_
            refine w_iconst F dX0_job_117 ?_
            refine w_icmp_ne F (tgt := 133) dX0_job_118 (by decide) (by first | assumption | exact inR0 | exact (hR _ _ _).1 | (constructor <;> omega)) (by first | assumption | exact inR0 | exact (hR _ _ _).1 | (constructor <;> omega)) (fun h9 => ?_) (fun h9 => ?_)
            · refine w_aload F dX0_job_133 rfl rfl ?_
              refine w_callV F (As := []) (ct_isLeafN hE γ (k := 1) (by omega) hy) (lw_V q610 q423 q424 q72 q425) md_X2_isLeaf (by omega) (cell_nd (by omega) (by omega)) rfl rfl rfl rfl (Nat.le_of_ble_eq_true rfl) dX0_job_135 ⟨by omega, by omega⟩ ⟨by omega, by omega⟩ ?_
              rintro _ _ ⟨rfl, rfl⟩
              refine w_if_ne F (tgt := 164) dX0_job_138 (by decide) (b2i_R _) (fun h10 => ?_) (fun h10 => ?_)
              · rw [b2i_n0] at h10
                have h10 : γ 3 21 y < 0 := h10
                omega
              · refine w_iinc F dX0_job_141 rfl (by decide) rfl (lv' := [(0, _), (1, _), (2, _), (3, _), (4, _)]) rfl ?_
                refine w_aload F dX0_job_144 rfl rfl ?_
                refine w_aload_n F dX0_job_146 rfl rfl ?_
                refine w_get F (by omega) rfl rfl in_X0 2 (by decide) (Or.inl q542) rfl dX0_job_147 ?_
                refine w_get F (by omega) (cell_stO (by omega)) rfl in_X1 5 (by decide) (Or.inr q157) rfl dX0_job_150 ?_
                refine w_iload_n F dX0_job_153 rfl ?_
                first | refine w_baldN F (aS5 _ (by omega)) (by omega) (by decide) (by omega) dX0_job_154 ?_ | refine w_bald F (aS5 _ (by omega)) (by omega) (by decide) (by omega) (by omega) dX0_job_154 ?_
                refine w_top (z' := v.2.1 2 i) s2 ?_
                refine w_iload_n F dX0_job_155 rfl ?_
                refine w_callV F (As := [_, _]) (ct_partN hE γ (k := 1) (by omega) hy (s := v.2.1 2 i) (j := (i : Int)) (by omega) (by omega)) (lw_V q611 q431 q432 q72 q433) md_X2_part (by omega) (cell_nd (by omega) (by omega)) rfl rfl rfl rfl (Nat.le_of_ble_eq_true rfl) dX0_job_156 ⟨by omega, by omega⟩ ⟨by omega, by omega⟩ ?_
                rintro _ _ ⟨rfl, rfl⟩
                by_cases hc : keyT v.2.1 i ≤ s
                · rw [if_pos (hgl.mpr hc)]
                  rw [if_pos hc] at a7
                  refine w_toN (j := xa) h2' ?_
                  refine w_astore F dX0_job_159 (by decide) rfl (lv' := [(0, _), (1, _), (2, _), (3, _), (4, _)]) rfl rfl ?_
                  refine w_goto F (tgt := 116) dX0_job_161 (by decide) ?_
                  exact iha xa (m + 1) _ na h7 (by omega) (by omega)
                · rw [if_neg (fun q => hc (hgl.mp q))]
                  rw [if_neg hc] at a7
                  refine w_toN (j := xb) h3 ?_
                  refine w_astore F dX0_job_159 (by decide) rfl (lv' := [(0, _), (1, _), (2, _), (3, _), (4, _)]) rfl rfl ?_
                  refine w_goto F (tgt := 116) dX0_job_161 (by decide) ?_
                  exact ihb xb (m + 1) _ nb h8 (by omega) (by omega)
            · omega
        refine w_iload_n F dX0_job_22 rfl ?_
        refine w_tabOut F (tgt := 105) dX0_job_23 (by first | assumption | exact inR0 | exact (hR _ _ _).1 | (constructor <;> omega)) (by omega) (by decide) ?_
        refine w_iconst F dX0_job_105 ?_
        refine w_istore_n F dX0_job_106 (by decide) rfl (lv' := [(0, _), (1, _), (2, _), (3, _)]) rfl ?_
        refine w_aload_n F dX0_job_107 rfl rfl ?_
        refine w_get F (by omega) rfl rfl in_X0 2 (by decide) (Or.inl q542) rfl dX0_job_108 ?_
        refine w_getF F (fS2 _ (by omega)) (by omega) rfl in_X1 (by decide) (Or.inr q152) dX0_job_111 ?_
        refine w_toN (j := x) hroot ?_
        refine w_astore F dX0_job_114 (by decide) rfl (lv' := [(0, _), (1, _), (2, _), (3, _), (4, _)]) rfl rfl ?_
        exact loop v.2.2 x 0 _ ns hr0 (by have := nn_23 hr0 hnd; omega) (by omega)
    · rw [b2i_0] at h2
      exact no (fun q => h2 q.2)
end D9
