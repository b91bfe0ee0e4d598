/-! DeadlineTree: leastStart -/
section D11
variable {l : Launch} {E : EE}
theorem ct_leastStart (hE : EOk E) (γ : GG) {T : Nat → Nat → Int} {left : Nat} (hl : left < 4096) (hJ : ∀ j, left.testBit j = true → JC T (γ 3) j) : Ct l yX0_leastStart cX0_leastStart 4 (some .int) E 200 20000 [.ref (E.ad 0), .int (iI (left : Int))] γ (pI (mst T left 1000000) γ) 0 0 := by
  refine Ct.of hE (by decide) (Nat.le_of_ble_eq_true rfl) (fun Φ hLn hΦ F hfr hlo => ?_)
  subst hLn; subst hΦ
  have h414 := F.ok.1.2.2
  have hrc := F.rc
  have hrs := F.rs
  show Wg Φ 4 _ 0 0 0 [(0, _), (1, _)] []
  refine w_rng (fun hR => ?_)
  refine w_ldc_w F q765 dX0_leastStart_0 ?_
  refine w_top (z' := 1000000) rfl ?_
  refine w_istore_n F dX0_leastStart_3 (by decide) rfl (lv' := [(0, _), (1, _), (2, _)]) rfl ?_
  refine w_iconst F dX0_leastStart_4 ?_
  refine w_istore_n F dX0_leastStart_5 (by decide) rfl (lv' := [(0, _), (1, _), (2, _), (3, _)]) rfl ?_
  have loop : ∀ (n i : Nat) (c : Int), i ≤ 12 → 12 - i < n → (0 ≤ c ∧ c ≤ 1000000) → ((List.range 12).drop i).foldl (fun m j => if left.testBit j = true ∧ T 2 j < m then T 2 j else m) c = mst T left 1000000 → Wg Φ 4 γ 0 0 6 [(0, .ref (Φ.E.ad 0)), (1, .int (iI (left : Int))), (2, .int (iI c)), (3, .int (iI (i : Int)))] [] := by
    intro n
    induction n with
    | zero => intro i c a1 a2; omega
    | succ n ih =>
      intro i c a1 a2 a3 a4
      refine w_iload_n F dX0_leastStart_6 rfl ?_
      refine w_bipush F dX0_leastStart_7 rfl ?_
      refine w_icmp_ge F (tgt := 44) dX0_leastStart_9 (by decide) (by first | assumption | exact inR0 | exact (hR _ _ _).1 | (constructor <;> omega)) (by first | assumption | exact inR0 | exact (hR _ _ _).1 | (constructor <;> omega)) (fun h => ?_) (fun h => ?_)
      · have e : i = 12 := by omega
        subst e
        refine w_iload_n F dX0_leastStart_44 rfl ?_
        refine w_top (z' := mst T left 1000000) (by rw [← a4]; rfl) ?_
        exact w_iret F (by omega) (by omega) (⟨rfl, rfl⟩) dX0_leastStart_45
      · have hd : (List.range 12).drop i = i :: (List.range 12).drop (i + 1) := by
          rw [List.drop_eq_getElem_cons (by simp; omega)]
          simp
        rw [hd, List.foldl_cons] at a4
        refine w_iload_n F dX0_leastStart_12 rfl ?_
        refine w_iload_n F dX0_leastStart_13 rfl ?_
        refine w_callS F (As := [_, _]) (ct_hasD hE γ (a := left) (j := i) (by omega) (by omega)) (lw_S q605 q606 q70 q607) md_X0_has rfl rfl (Nat.le_of_ble_eq_true rfl) dX0_leastStart_14 ⟨by omega, by omega⟩ ⟨by omega, by omega⟩ ?_
        rintro _ _ ⟨rfl, rfl⟩
        refine w_if_eq F (tgt := 36) dX0_leastStart_17 (by decide) (b2i_R _) (fun h2 => ?_) (fun h2 => ?_)
        · rw [b2i_0] at h2
          rw [if_neg (fun q => h2 q.1)] at a4
          refine w_iload_n F dX0_leastStart_36 rfl ?_
          refine w_istore_n F dX0_leastStart_37 (by decide) rfl (lv' := [(0, _), (1, _), (2, _), (3, _)]) rfl ?_
          refine w_iinc F dX0_leastStart_38 rfl (by decide) rfl (lv' := [(0, _), (1, _), (2, _), (3, _)]) rfl ?_
          refine w_goto F (tgt := 6) dX0_leastStart_41 (by decide) ?_
          exact ih (i + 1) c (by omega) (by omega) a3 a4
        · rw [b2i_n0] at h2
          have hJi := hJ i h2
          have bi := hJi.2.2.2.1
          refine w_iload_n F dX0_leastStart_20 rfl ?_
          refine w_aload_n F dX0_leastStart_21 rfl rfl ?_
          refine w_get F (by omega) rfl rfl in_X0 2 (by decide) (Or.inl q542) rfl dX0_leastStart_22 ?_
          refine w_get F (by omega) (cell_stO (by omega)) rfl in_X1 5 (by decide) (Or.inr q157) rfl dX0_leastStart_25 ?_
          refine w_iload_n F dX0_leastStart_28 rfl ?_
          first | refine w_baldN F (aS5 _ (by omega)) (by omega) (by decide) (by omega) dX0_leastStart_29 ?_ | refine w_bald F (aS5 _ (by omega)) (by omega) (by decide) (by omega) (by omega) dX0_leastStart_29 ?_
          refine w_top (z' := T 2 i) hJi.2.1.2.1 ?_
          refine w_callS F (As := [_, _]) (ct_min hE γ (by omega) (by omega)) (lw_S q766 q767 q86 q768) md_J8_min rfl rfl (Nat.le_of_ble_eq_true rfl) dX0_leastStart_30 ⟨by omega, by omega⟩ ⟨by omega, by omega⟩ ?_
          rintro _ _ ⟨rfl, rfl⟩
          refine w_goto F (tgt := 37) dX0_leastStart_33 (by decide) ?_
          refine w_top (z' := if left.testBit i = true ∧ T 2 i < c then T 2 i else c) ?_ ?_
          · by_cases hc : T 2 i < c
            · rw [if_pos ⟨h2, hc⟩]; omega
            · rw [if_neg (fun q => hc q.2)]; omega
          · refine w_istore_n F dX0_leastStart_37 (by decide) rfl (lv' := [(0, _), (1, _), (2, _), (3, _)]) rfl ?_
            refine w_iinc F dX0_leastStart_38 rfl (by decide) rfl (lv' := [(0, _), (1, _), (2, _), (3, _)]) rfl ?_
            refine w_goto F (tgt := 6) dX0_leastStart_41 (by decide) ?_
            refine ih (i + 1) _ (by omega) (by omega) ?_ a4
            split <;> omega
  exact loop 13 0 1000000 (by omega) (by omega) (by omega) rfl
end D11
