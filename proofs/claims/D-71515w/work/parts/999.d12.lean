/-! DeadlineTree: next -/
section D12
variable {l : Launch} {E : EE}
theorem ct_next (hE : EOk E) (hA : AhOk l E) (γ : GG) {T : Nat → Nat → Int} {left : Nat} {time later : Int} (hl : left < 4096) (hti : InR time) (hla : 0 ≤ later ∧ later ≤ 99) (hJ : ∀ j, left.testBit j = true → JC T (γ 3) j) : Ct l yX0_next cX0_next 10 (some .int) E 500 32000 [.ref (E.ad 0), .int (iI (left : Int)), .int (iI time), .int (iI later)] γ (pI (nx T later left time) γ) 0 0 := by
  refine Ct.of hE (by decide) (Nat.le_of_ble_eq_true rfl) (fun Φ hLn hΦ F hfr hlo => ?_)
  subst hLn; subst hΦ
  have h414 := F.ok.1.2.2
  have hrc := F.rc
  have hrs := F.rs
  show Wg Φ 10 _ 0 0 0 [(0, _), (1, _), (2, _), (3, _)] []
  refine w_rng (fun hR => ?_)
  refine w_bipush F dX0_next_0 rfl ?_
  refine w_istore F dX0_next_2 (by decide) rfl (lv' := [(0, _), (1, _), (2, _), (3, _), (4, _)]) rfl ?_
  refine w_iconst F dX0_next_4 ?_
  refine w_istore F dX0_next_5 (by decide) rfl (lv' := [(0, _), (1, _), (2, _), (3, _), (4, _), (5, _)]) rfl ?_
  refine w_iconst F dX0_next_7 ?_
  refine w_istore F dX0_next_8 (by decide) rfl (lv' := [(0, _), (1, _), (2, _), (3, _), (4, _), (5, _), (6, _)]) rfl ?_
  have loop : ∀ (n i : Nat) (c r : Int), i ≤ 12 → 12 - i < n → (c = -4 ∨ ∃ q : Nat, c = (q : Int) ∧ q < 12) → (c ≠ -4 → r = rkL T later c.toNat) → (0 ≤ r ∧ r ≤ 1100) → ((List.range 12).drop i).foldl (stp (rkL T later) (may T left time)) c = nx T later left time → Wg Φ 10 γ 0 0 10 [(0, .ref (Φ.E.ad 0)), (1, .int (iI (left : Int))), (2, .int (iI time)), (3, .int (iI later)), (4, .int (iI c)), (5, .int (iI r)), (6, .int (iI (i : Int)))] [] := by
    intro n
    induction n with
    | zero => intro i c r a1 a2; omega
    | succ n ih =>
      intro i c r a1 a2 a3 a5 a6 a4
      have hcr : -4 ≤ c ∧ c < 12 := by rcases a3 with q | ⟨q, q1, q2⟩ <;> omega
      refine w_iload F dX0_next_10 rfl ?_
      refine w_bipush F dX0_next_12 rfl ?_
      refine w_icmp_ge F (tgt := 154) dX0_next_14 (by decide) (by first | assumption | exact inR0 | exact (hR _ _ _).1 | (constructor <;> omega)) (by first | assumption | exact inR0 | exact (hR _ _ _).1 | (constructor <;> omega)) (fun h => ?_) (fun h => ?_)
      · have e : i = 12 := by omega
        subst e
        refine w_iload F dX0_next_154 rfl ?_
        refine w_top (z' := nx T later left time) (by rw [← a4]; rfl) ?_
        exact w_iret F (by omega) (by omega) (⟨rfl, rfl⟩) dX0_next_156
      · have f1 : i + 1 ≤ 12 := by clear a3 a4 a5 ih; omega
        have f2 : 12 - (i + 1) < n := by clear a3 a4 a5 ih; omega
        have hd : (List.range 12).drop i = i :: (List.range 12).drop (i + 1) := by
          rw [List.drop_eq_getElem_cons (by simp; omega)]
          simp
        rw [hd, List.foldl_cons] at a4
        have skip : ¬ (may T left time i = true ∧ (c = -4 ∨ rkL T later i < rkL T later c.toNat ∨ rkL T later i = rkL T later c.toNat ∧ (i : Int) < c)) → Wg Φ 10 γ 0 0 148 [(0, .ref (Φ.E.ad 0)), (1, .int (iI (left : Int))), (2, .int (iI time)), (3, .int (iI later)), (4, .int (iI c)), (5, .int (iI r)), (6, .int (iI (i : Int)))] [] := by
          intro hn
          have est : stp (rkL T later) (may T left time) c i = c := by unfold stp; rw [if_neg hn]
          rw [est] at a4
          refine w_iinc F dX0_next_148 rfl (by decide) rfl (lv' := [(0, _), (1, _), (2, _), (3, _), (4, _), (5, _), (6, _)]) rfl ?_
          refine w_goto F (tgt := 10) dX0_next_151 (by decide) ?_
          exact ih (i + 1) c r f1 f2 a3 a5 a6 a4
        refine w_iload_n F dX0_next_17 rfl ?_
        refine w_iload F dX0_next_18 rfl ?_
        refine w_callS F (As := [_, _]) (ct_hasD hE γ (a := left) (j := i) (by omega) (by omega)) (lw_S q605 q606 q70 q607) md_X0_has rfl rfl (Nat.le_of_ble_eq_true rfl) dX0_next_20 ⟨by omega, by omega⟩ ⟨by omega, by omega⟩ ?_
        rintro _ _ ⟨rfl, rfl⟩
        refine w_if_eq F (tgt := 148) dX0_next_23 (by decide) (b2i_R _) (fun h2 => ?_) (fun h2 => ?_)
        · rw [b2i_0] at h2
          exact skip (fun q => h2 (by have := q.1; unfold may at this; simp at this; exact this.1))
        · rw [b2i_n0] at h2
          obtain ⟨j1, ⟨s1, s2, s3, s4⟩, r1, r2, r3, r4⟩ := hJ i h2
          refine w_aload_n F dX0_next_26 rfl rfl ?_
          refine w_get F (by omega) rfl rfl in_X0 2 (by decide) (Or.inl q542) rfl dX0_next_27 ?_
          refine w_get F (by omega) (cell_stO (by omega)) rfl in_X1 5 (by decide) (Or.inr q157) rfl dX0_next_30 ?_
          refine w_iload F dX0_next_33 rfl ?_
          first | refine w_baldN F (aS5 _ (by omega)) (by omega) (by decide) (by omega) dX0_next_35 ?_ | refine w_bald F (aS5 _ (by omega)) (by omega) (by decide) (by omega) (by omega) dX0_next_35 ?_
          refine w_top (z' := T 2 i) s2 ?_
          refine w_iload_n F dX0_next_36 rfl ?_
          refine w_icmp_gt F (tgt := 148) dX0_next_37 (by decide) (by first | assumption | exact inR0 | exact (hR _ _ _).1 | (constructor <;> omega)) (by first | assumption | exact inR0 | exact (hR _ _ _).1 | (constructor <;> omega)) (fun h3 => ?_) (fun h3 => ?_)
          · exact skip (fun q => by have := q.1; unfold may at this; simp at this; omega)
          · obtain ⟨k0, hk0⟩ : ∃ k0 : Nat, T 1 i = (k0 : Int) := ⟨(T 1 i).toNat, by omega⟩
            have bk := rk_in (k := T 1 i) (ln := T 4 i) (d := T 3 i + later) (by omega) (by omega) (by omega) (by omega)
            have bk : 0 ≤ rkL T later i ∧ rkL T later i ≤ 1100 := bk
            have hmay : may T left time i = true := by unfold may; simp [h2]; exact h3
            have take : (c = -4 ∨ rkL T later i < rkL T later c.toNat ∨ rkL T later i = rkL T later c.toNat ∧ (i : Int) < c) → Wg Φ 10 γ 0 0 113 [(0, .ref (Φ.E.ad 0)), (1, .int (iI (left : Int))), (2, .int (iI time)), (3, .int (iI later)), (4, .int (iI c)), (5, .int (iI r)), (6, .int (iI (i : Int))), (8, .int (iI (rkL T later i)))] [] := by
              intro hy
              have est : stp (rkL T later) (may T left time) c i = (i : Int) := by unfold stp; rw [if_pos ⟨hmay, hy⟩]
              rw [est] at a4
              refine w_iconst F dX0_next_113 ?_
              refine w_goto F (tgt := 118) dX0_next_114 (by decide) ?_
              refine w_istore F dX0_next_118 (by decide) rfl (lv' := [(0, _), (1, _), (2, _), (3, _), (4, _), (5, _), (6, _), (8, _), (9, _)]) rfl ?_
              refine w_iload F dX0_next_120 rfl ?_
              refine w_if_eq F (tgt := 130) dX0_next_122 (by decide) (by first | assumption | exact inR0 | exact (hR _ _ _).1 | (constructor <;> omega)) (fun h9 => ?_) (fun h9 => ?_)
              · omega
              · refine w_iload F dX0_next_125 rfl ?_
                refine w_goto F (tgt := 132) dX0_next_127 (by decide) ?_
                refine w_istore F dX0_next_132 (by decide) rfl (lv' := [(0, _), (1, _), (2, _), (3, _), (4, _), (5, _), (6, _), (8, _), (9, _)]) rfl ?_
                refine w_iload F dX0_next_134 rfl ?_
                refine w_if_eq F (tgt := 144) dX0_next_136 (by decide) (by first | assumption | exact inR0 | exact (hR _ _ _).1 | (constructor <;> omega)) (fun h10 => ?_) (fun h10 => ?_)
                · omega
                · refine w_iload F dX0_next_139 rfl ?_
                  refine w_goto F (tgt := 146) dX0_next_141 (by decide) ?_
                  refine w_istore F dX0_next_146 (by decide) rfl (lv' := [(0, _), (1, _), (2, _), (3, _), (4, _), (5, _), (6, _), (8, _), (9, _)]) rfl ?_
                  refine w_iinc F dX0_next_148 rfl (by decide) rfl (lv' := [(0, _), (1, _), (2, _), (3, _), (4, _), (5, _), (6, _), (8, _), (9, _)]) rfl ?_
                  refine w_goto F (tgt := 10) dX0_next_151 (by decide) ?_
                  refine w_keep [0, 1, 2, 3, 4, 5, 6] (lv' := [(0, _), (1, _), (2, _), (3, _), (4, _), (5, _), (6, _)]) rfl ?_
                  exact ih (i + 1) (i : Int) (rkL T later i) f1 f2 (Or.inr ⟨i, rfl, f1⟩) (fun _ => by simp) bk a4
            refine w_aload_n F dX0_next_40 rfl rfl ?_
            refine w_get F (by omega) rfl rfl in_X0 0 (by decide) (Or.inl q539) rfl dX0_next_41 ?_
            refine w_aload_n F dX0_next_44 rfl rfl ?_
            refine w_get F (by omega) rfl rfl in_X0 2 (by decide) (Or.inl q542) rfl dX0_next_45 ?_
            refine w_get F (by omega) (cell_stO (by omega)) rfl in_X1 4 (by decide) (Or.inr q155) rfl dX0_next_48 ?_
            refine w_iload F dX0_next_51 rfl ?_
            first | refine w_baldN F (aS4 _ (by omega)) (by omega) (by decide) (by omega) dX0_next_53 ?_ | refine w_bald F (aS4 _ (by omega)) (by omega) (by decide) (by omega) (by omega) dX0_next_53 ?_
            refine w_top (z' := (k0 : Int)) (by rw [← hk0]; exact s1) ?_
            refine w_kindsN F (by omega) (by omega) dX0_next_54 ?_
            refine w_astore F dX0_next_55 (by decide) rfl (lv' := [(0, _), (1, _), (2, _), (3, _), (4, _), (5, _), (6, _), (7, _)]) rfl rfl ?_
            refine w_aload F dX0_next_57 rfl rfl ?_
            refine w_aload_n F dX0_next_59 rfl rfl ?_
            refine w_get F (by omega) rfl rfl in_X0 2 (by decide) (Or.inl q542) rfl dX0_next_60 ?_
            refine w_get F (by omega) (cell_stO (by omega)) rfl in_X1 6 (by decide) (Or.inr q159) rfl dX0_next_63 ?_
            refine w_iload F dX0_next_66 rfl ?_
            first | refine w_baldN F (aS6 _ (by omega)) (by omega) (by decide) (by omega) dX0_next_68 ?_ | refine w_bald F (aS6 _ (by omega)) (by omega) (by decide) (by omega) (by omega) dX0_next_68 ?_
            refine w_top (z' := T 3 i) s3 ?_
            refine w_iload_n F dX0_next_69 rfl ?_
            refine w_iadd F dX0_next_70 ?_
            refine w_aload_n F dX0_next_71 rfl rfl ?_
            refine w_get F (by omega) rfl rfl in_X0 2 (by decide) (Or.inl q542) rfl dX0_next_72 ?_
            refine w_get F (by omega) (cell_stO (by omega)) rfl in_X1 7 (by decide) (Or.inr q161) rfl dX0_next_75 ?_
            refine w_iload F dX0_next_78 rfl ?_
            first | refine w_baldN F (aS7 _ (by omega)) (by omega) (by decide) (by omega) dX0_next_80 ?_ | refine w_bald F (aS7 _ (by omega)) (by omega) (by decide) (by omega) (by omega) dX0_next_80 ?_
            refine w_top (z' := T 4 i) s4 ?_
            refine w_rankI F (by omega) (by omega) (by omega) q758 (Nat.le_of_ble_eq_true rfl) dX0_next_81 ⟨by omega, by omega⟩ ⟨by omega, by omega⟩ ?_
            rw [show rk (k0 : Int) (T 4 i) (T 3 i + later) = rkL T later i by unfold rkL; rw [hk0]]
            refine w_istore F dX0_next_86 (by decide) rfl (lv' := [(0, _), (1, _), (2, _), (3, _), (4, _), (5, _), (6, _), (7, _), (8, _)]) rfl ?_
            refine w_iload F dX0_next_88 rfl ?_
            refine w_bipush F dX0_next_90 rfl ?_
            refine w_icmp_eq F (tgt := 113) dX0_next_92 (by decide) (by first | assumption | exact inR0 | exact (hR _ _ _).1 | (constructor <;> omega)) (by first | assumption | exact inR0 | exact (hR _ _ _).1 | (constructor <;> omega)) (fun h4 => ?_) (fun h4 => ?_)
            · refine w_keep [0, 1, 2, 3, 4, 5, 6, 8] (lv' := [(0, _), (1, _), (2, _), (3, _), (4, _), (5, _), (6, _), (8, _)]) rfl ?_
              exact take (Or.inl h4)
            · refine w_aload F dX0_next_95 rfl rfl ?_
              refine w_iload F dX0_next_97 rfl ?_
              refine w_iload F dX0_next_99 rfl ?_
              refine w_iload F dX0_next_101 rfl ?_
              refine w_iload F dX0_next_103 rfl ?_
              refine hA Φ _ _ _ _ _ _ _ _ _ _ _ _ _ _ _ k0 _ _ _ _ rfl rfl F (by omega) ⟨by omega, by omega⟩ ⟨by omega, by omega⟩ ⟨by omega, by omega⟩ ⟨by omega, by omega⟩ q760 (Nat.le_of_ble_eq_true rfl) dX0_next_105 ⟨by omega, by omega⟩ ⟨by omega, by omega⟩ ?_
              have er := a5 h4
              refine w_if_eq F (tgt := 117) dX0_next_110 (by decide) (b2i_R _) (fun h5 => ?_) (fun h5 => ?_)
              · rw [b2i_0, er] at h5
                have hn : ¬ (may T left time i = true ∧ (c = -4 ∨ rkL T later i < rkL T later c.toNat ∨ rkL T later i = rkL T later c.toNat ∧ (i : Int) < c)) := by
                  rintro ⟨_, q | q⟩
                  · exact h4 q
                  · exact h5 q
                refine w_iconst F dX0_next_117 ?_
                refine w_istore F dX0_next_118 (by decide) rfl (lv' := [(0, _), (1, _), (2, _), (3, _), (4, _), (5, _), (6, _), (7, _), (8, _), (9, _)]) rfl ?_
                refine w_iload F dX0_next_120 rfl ?_
                refine w_if_eq F (tgt := 130) dX0_next_122 (by decide) (by first | assumption | exact inR0 | exact (hR _ _ _).1 | (constructor <;> omega)) (fun h6 => ?_) (fun h6 => ?_)
                · refine w_iload F dX0_next_130 rfl ?_
                  refine w_istore F dX0_next_132 (by decide) rfl (lv' := [(0, _), (1, _), (2, _), (3, _), (4, _), (5, _), (6, _), (7, _), (8, _), (9, _)]) rfl ?_
                  refine w_iload F dX0_next_134 rfl ?_
                  refine w_if_eq F (tgt := 144) dX0_next_136 (by decide) (by first | assumption | exact inR0 | exact (hR _ _ _).1 | (constructor <;> omega)) (fun h7 => ?_) (fun h7 => ?_)
                  · refine w_iload F dX0_next_144 rfl ?_
                    refine w_istore F dX0_next_146 (by decide) rfl (lv' := [(0, _), (1, _), (2, _), (3, _), (4, _), (5, _), (6, _), (7, _), (8, _), (9, _)]) rfl ?_
                    refine w_keep [0, 1, 2, 3, 4, 5, 6] (lv' := [(0, _), (1, _), (2, _), (3, _), (4, _), (5, _), (6, _)]) rfl ?_
                    exact skip hn
                  · omega
                · omega
              · rw [b2i_n0, er] at h5
                refine w_keep [0, 1, 2, 3, 4, 5, 6, 8] (lv' := [(0, _), (1, _), (2, _), (3, _), (4, _), (5, _), (6, _), (8, _)]) rfl ?_
                exact take (Or.inr h5)
  exact loop 13 0 (-4) 0 (by omega) (by omega) (Or.inl rfl) (fun q => absurd rfl q) (by omega) rfl
end D12
