/-! DeadlineTree: keep, back, undo -/
def OnlyN (γ g : GG) : Prop := ∀ o, o ≤ 1 → o ≠ 1 → g o = γ o
section D3
variable {l : Launch} {E : EE}
theorem ct_keepD (hE : EOk E) (γ : GG) {v : VV} {vu vk : List VV} (hF : DF γ v vu vk) : Ct l yX0_keep cX0_keep 1 (some .int) E 300 24000 [.ref (E.ad 0)] γ (fun r g => g 0 = γ 0 ∧ (∀ f, f ≠ 5 → g 1 f = γ 1 f) ∧ ((vk.length = 2 ∧ r = some (.int (iI (-3))) ∧ DF g v vu vk) ∨ (vk.length ≠ 2 ∧ r = some (.int (iI ((vk.length : Int) + 1))) ∧ DF g v vu (vk ++ [v])))) 0 0 := by
  refine Ct.of hE (by decide) (Nat.le_of_ble_eq_true rfl) (fun Φ hLn hΦ F hfr hlo => ?_)
  subst hLn; subst hΦ
  have h414 := F.ok.1.2.2
  have hrc := F.rc
  have hrs := F.rs
  show Wg Φ 1 _ 0 0 0 [(0, _)] []
  refine w_rng (fun hR => ?_)
  obtain ⟨h1, h2, h3, h4, h5, h6, h7, h8, h9, h10⟩ := id hF
  refine w_aload_n F dX0_keep_0 rfl rfl ?_
  refine w_getF F (fD5 _) (by omega) rfl in_X0 (by decide) (Or.inl q545) dX0_keep_1 ?_
  refine w_top h6 ?_
  refine w_iconst F dX0_keep_4 ?_
  refine w_icmp_ne F (tgt := 11) dX0_keep_5 (by decide) (by first | assumption | exact inR0 | exact (hR _ _ _).1 | (constructor <;> omega)) (by first | assumption | exact inR0 | exact (hR _ _ _).1 | (constructor <;> omega)) (fun h => ?_) (fun h => ?_)
  · refine w_aload_n F dX0_keep_11 rfl rfl ?_
    refine w_get F (by omega) rfl rfl in_X0 4 (by decide) (Or.inl q544) rfl dX0_keep_12 ?_
    refine w_aload_n F dX0_keep_15 rfl rfl ?_
    refine w_getF F (fD5 _) (by omega) rfl in_X0 (by decide) (Or.inl q545) dX0_keep_16 ?_
    refine w_top h6 ?_
    refine w_keptN F (by omega) (by omega) dX0_keep_19 ?_
    refine w_aload_n F dX0_keep_20 rfl rfl ?_
    refine w_get F (by omega) rfl rfl in_X0 2 (by decide) (Or.inl q542) rfl dX0_keep_21 ?_
    refine w_callV F (As := [_]) (ct_copyS hE γ (k := 3 + vk.length) (k2 := 1) (by omega) (by omega) (by omega)) (lw_V q528 q529 q530 q71 q531) md_X1_copy (by omega) (cell_stO (by omega)) rfl rfl rfl rfl (Nat.le_of_ble_eq_true rfl) dX0_keep_24 ⟨by omega, by omega⟩ ⟨by omega, by omega⟩ ?_
    rintro _ g1 ⟨rfl, c1, o1⟩
    have e1 : g1 1 = γ 1 := o1 1 (by omega)
    refine w_aload_n F dX0_keep_27 rfl rfl ?_
    refine w_dup F dX0_keep_28 rfl ?_
    refine w_getF F (fD5 _) (by omega) rfl in_X0 (by decide) (Or.inl q545) dX0_keep_29 ?_
    refine w_top (z' := (vk.length : Int)) (by rw [e1]; exact h6) ?_
    refine w_iconst F dX0_keep_32 ?_
    refine w_iadd F dX0_keep_33 ?_
    refine w_putF F (fD5 _) (by omega) rfl in_X0 tyX0 tyX0_ok nmX0 (by decide) (Or.inl q545) rfl rfl rfl (by first | assumption | exact inR0 | exact (hR _ _ _).1 | (constructor <;> omega)) (fun h => by cases h) (fun h => by cases h) dX0_keep_34 ?_
    refine w_aload_n F dX0_keep_37 rfl rfl ?_
    refine w_getF F (fD5 _) (by omega) rfl in_X0 (by decide) (Or.inl q545) dX0_keep_38 ?_
    refine w_top (z' := (vk.length : Int) + 1) (gu_s _ _ _ _ _) ?_
    have eo : ∀ o, o ≠ 1 → o ≠ 5 + vk.length → gu g1 1 5 0 ((vk.length : Int) + 1) o = γ o := fun o q1 q2 => by rw [gu_o q1]; exact o1 o (by omega)
    have e6 : gu g1 1 5 0 ((vk.length : Int) + 1) 1 6 = γ 1 6 := by rw [gu_f (by decide), e1]
    have hfin : DF (gu g1 1 5 0 ((vk.length : Int) + 1)) v vu (vk ++ [v]) := by
      refine ⟨by rw [eo 3 (by decide) (by omega)]; exact h1, h2, by rw [gu_f (by decide), e1]; exact h3, h4, fun i w hw => ?_, by rw [gu_s]; simp, by simp; omega, fun i w hw => ?_, by rw [e6]; exact h9, by rw [e6]; exact h10⟩
      · have hi : i < 8 := by have := (List.getElem?_eq_some_iff.mp hw).1; omega
        have := h9 i hi
        rw [e6, eo _ (by omega) (by omega)]
        exact h5 i w hw
      · by_cases e : i < vk.length
        · rw [List.getElem?_append_left e] at hw
          rw [eo _ (by omega) (by omega)]
          exact h8 i w hw
        · have e2 := (List.getElem?_eq_some_iff.mp hw).1
          simp at e2
          have e3 : i = vk.length := by omega
          subst e3
          simp at hw
          rw [← hw, gu_o (by omega)]
          refine ⟨?_, h2⟩
          rw [show 5 + vk.length = 2 + (3 + vk.length) by omega]
          exact h1.cp h2 c1
    exact w_iret F (by omega) (by omega) (⟨eo 0 (by decide) (by omega), fun f hf => by rw [gu_f hf, e1], Or.inr ⟨by omega, rfl, hfin⟩⟩) dX0_keep_41
  · refine w_bipush F dX0_keep_8 rfl ?_
    exact w_iret F (by omega) (by omega) (⟨rfl, fun _ _ => rfl, Or.inl ⟨by omega, rfl, hF⟩⟩) dX0_keep_10
theorem ct_undoD (hE : EOk E) (γ : GG) {v : VV} {vu vk : List VV} (hF : DF γ v vu vk) : Ct l yX0_undo cX0_undo 1 (some .int) E 300 24000 [.ref (E.ad 0)] γ (fun r g => g 0 = γ 0 ∧ (∀ f, f ≠ 7 → g 1 f = γ 1 f) ∧ ((vu = [] ∧ r = some (.int (iI (-2))) ∧ DF g v vu vk) ∨ ∃ wu w, vu = wu ++ [w] ∧ r = some (.int (iI (wu.length : Int))) ∧ DF g w wu vk)) 0 0 := by
  refine Ct.of hE (by decide) (Nat.le_of_ble_eq_true rfl) (fun Φ hLn hΦ F hfr hlo => ?_)
  subst hLn; subst hΦ
  have h414 := F.ok.1.2.2
  have hrc := F.rc
  have hrs := F.rs
  show Wg Φ 1 _ 0 0 0 [(0, _)] []
  refine w_rng (fun hR => ?_)
  obtain ⟨h1, h2, h3, h4, h5, h6, h7, h8, h9, h10⟩ := id hF
  refine w_aload_n F dX0_undo_0 rfl rfl ?_
  refine w_getF F (fD7 _) (by omega) rfl in_X0 (by decide) (Or.inl q547) dX0_undo_1 ?_
  refine w_top h3 ?_
  refine w_if_ne F (tgt := 10) dX0_undo_4 (by decide) (by first | assumption | exact inR0 | exact (hR _ _ _).1 | (constructor <;> omega)) (fun h => ?_) (fun h => ?_)
  · have hne : vu ≠ [] := fun e => by rw [e] at h; simp at h
    obtain ⟨wu, w, hvu⟩ : ∃ wu w, vu = wu ++ [w] := ⟨vu.dropLast, vu.getLast hne, (List.dropLast_concat_getLast hne).symm⟩
    have hlen : vu.length = wu.length + 1 := by rw [hvu]; simp
    have hm8 : wu.length < 8 := by omega
    have hr := h9 wu.length hm8
    obtain ⟨q1, q2⟩ := h5 wu.length w (by rw [hvu]; simp)
    obtain ⟨kk, hkk⟩ : ∃ q, q = (γ 1 6 wu.length).toNat := ⟨_, rfl⟩
    have hkk2 : 5 ≤ kk ∧ kk < 13 := by omega
    rw [← hkk] at q1
    refine w_aload_n F dX0_undo_10 rfl rfl ?_
    refine w_dup F dX0_undo_11 rfl ?_
    refine w_getF F (fD7 _) (by omega) rfl in_X0 (by decide) (Or.inl q547) dX0_undo_12 ?_
    refine w_top h3 ?_
    refine w_iconst F dX0_undo_15 ?_
    refine w_isub F dX0_undo_16 ?_
    refine w_top (z' := (wu.length : Int)) (by omega) ?_
    refine w_putF F (fD7 _) (by omega) rfl in_X0 tyX0 tyX0_ok nmX0 (by decide) (Or.inl q547) rfl rfl rfl (by first | assumption | exact inR0 | exact (hR _ _ _).1 | (constructor <;> omega)) (fun h => by cases h) (fun h => by cases h) dX0_undo_17 ?_
    refine w_aload_n F dX0_undo_20 rfl rfl ?_
    refine w_get F (by omega) rfl rfl in_X0 2 (by decide) (Or.inl q542) rfl dX0_undo_21 ?_
    refine w_aload_n F dX0_undo_24 rfl rfl ?_
    refine w_get F (by omega) rfl rfl in_X0 6 (by decide) (Or.inl q546) rfl dX0_undo_25 ?_
    refine w_aload_n F dX0_undo_28 rfl rfl ?_
    refine w_getF F (fD7 _) (by omega) rfl in_X0 (by decide) (Or.inl q547) dX0_undo_29 ?_
    refine w_top (z' := (wu.length : Int)) (gu_s _ _ _ _ _) ?_
    refine w_undosN F (by omega) (by omega) dX0_undo_32 ?_
    rw [show (gu γ 1 7 0 (wu.length : Int) 1 6 wu.length).toNat = kk by rw [gu_f (by decide)]; exact hkk.symm]
    refine w_callV F (As := [_]) (ct_copyS hE (gu γ 1 7 0 (wu.length : Int)) (k := 1) (k2 := kk) (by omega) (by omega) (by omega)) (lw_V q528 q529 q530 q71 q531) md_X1_copy (by omega) (cell_stO (by omega)) rfl rfl rfl rfl (Nat.le_of_ble_eq_true rfl) dX0_undo_33 ⟨by omega, by omega⟩ ⟨by omega, by omega⟩ ?_
    rintro _ g1 ⟨rfl, c1, o1⟩
    have e1 : g1 1 = gu γ 1 7 0 (wu.length : Int) 1 := o1 1 (by omega)
    have eo : ∀ o, o ≠ 1 → o ≠ 3 → g1 o = γ o := fun o p1 p2 => by rw [o1 o (by omega), gu_o p1]
    have e6 : g1 1 6 = γ 1 6 := by rw [e1, gu_f (by decide)]
    have hfin : DF g1 w wu vk := by
      refine ⟨?_, q2, by rw [e1]; exact gu_s _ _ _ _ _, by omega, fun i z hz => ?_, by rw [e1, gu_f (by decide)]; exact h6, h7, fun i z hz => by rw [eo _ (by omega) (by omega)]; exact h8 i z hz, by rw [e6]; exact h9, by rw [e6]; exact h10⟩
      · refine SV.cp (σ := γ (2 + kk)) q1 q2 ?_
        rw [gu_o (by omega)] at c1
        exact c1
      · have hi := (List.getElem?_eq_some_iff.mp hz).1
        have := h9 i (by omega)
        rw [e6, eo _ (by omega) (by omega)]
        exact h5 i z (by rw [hvu, List.getElem?_append_left hi]; exact hz)
    refine w_aload_n F dX0_undo_36 rfl rfl ?_
    refine w_getF F (fD7 _) (by omega) rfl in_X0 (by decide) (Or.inl q547) dX0_undo_37 ?_
    refine w_top (z' := (wu.length : Int)) (by rw [e1]; exact gu_s _ _ _ _ _) ?_
    exact w_iret F (by omega) (by omega) (⟨eo 0 (by decide) (by omega), fun f hf => by rw [e1, gu_f hf], Or.inr ⟨wu, w, hvu, rfl, hfin⟩⟩) dX0_undo_40
  · refine w_bipush F dX0_undo_7 rfl ?_
    exact w_iret F (by omega) (by omega) (⟨rfl, fun _ _ => rfl, Or.inl ⟨List.length_eq_zero_iff.mp (by omega), rfl, hF⟩⟩) dX0_undo_9
theorem ct_backD (hE : EOk E) (γ : GG) {v : VV} {vu vk : List VV} (hF : DF γ v vu vk) : Ct l yX0_back cX0_back 1 (some .int) E 300 24000 [.ref (E.ad 0)] γ (fun r g => g 0 = γ 0 ∧ (∀ f, f ≠ 7 → f ≠ 5 → g 1 f = γ 1 f) ∧ ((vk = [] ∧ r = some (.int (iI (-2))) ∧ DF g v vu vk) ∨ ∃ wk w, vk = wk ++ [w] ∧ r = some (.int (iI (wk.length : Int))) ∧ DF g w [] wk)) 0 0 := by
  refine Ct.of hE (by decide) (Nat.le_of_ble_eq_true rfl) (fun Φ hLn hΦ F hfr hlo => ?_)
  subst hLn; subst hΦ
  have h414 := F.ok.1.2.2
  have hrc := F.rc
  have hrs := F.rs
  show Wg Φ 1 _ 0 0 0 [(0, _)] []
  refine w_rng (fun hR => ?_)
  obtain ⟨h1, h2, h3, h4, h5, h6, h7, h8, h9, h10⟩ := id hF
  refine w_aload_n F dX0_back_0 rfl rfl ?_
  refine w_getF F (fD5 _) (by omega) rfl in_X0 (by decide) (Or.inl q545) dX0_back_1 ?_
  refine w_top h6 ?_
  refine w_if_ne F (tgt := 10) dX0_back_4 (by decide) (by first | assumption | exact inR0 | exact (hR _ _ _).1 | (constructor <;> omega)) (fun h => ?_) (fun h => ?_)
  · have hne : vk ≠ [] := fun e => by rw [e] at h; simp at h
    obtain ⟨wk, w, hvk⟩ : ∃ wk w, vk = wk ++ [w] := ⟨vk.dropLast, vk.getLast hne, (List.dropLast_concat_getLast hne).symm⟩
    have hlen : vk.length = wk.length + 1 := by rw [hvk]; simp
    obtain ⟨q1, q2⟩ := h8 wk.length w (by rw [hvk]; simp)
    refine w_aload_n F dX0_back_10 rfl rfl ?_
    refine w_dup F dX0_back_11 rfl ?_
    refine w_getF F (fD5 _) (by omega) rfl in_X0 (by decide) (Or.inl q545) dX0_back_12 ?_
    refine w_top h6 ?_
    refine w_iconst F dX0_back_15 ?_
    refine w_isub F dX0_back_16 ?_
    refine w_top (z' := (wk.length : Int)) (by omega) ?_
    refine w_putF F (fD5 _) (by omega) rfl in_X0 tyX0 tyX0_ok nmX0 (by decide) (Or.inl q545) rfl rfl rfl (by first | assumption | exact inR0 | exact (hR _ _ _).1 | (constructor <;> omega)) (fun h => by cases h) (fun h => by cases h) dX0_back_17 ?_
    refine w_aload_n F dX0_back_20 rfl rfl ?_
    refine w_get F (by omega) rfl rfl in_X0 2 (by decide) (Or.inl q542) rfl dX0_back_21 ?_
    refine w_aload_n F dX0_back_24 rfl rfl ?_
    refine w_get F (by omega) rfl rfl in_X0 4 (by decide) (Or.inl q544) rfl dX0_back_25 ?_
    refine w_aload_n F dX0_back_28 rfl rfl ?_
    refine w_getF F (fD5 _) (by omega) rfl in_X0 (by decide) (Or.inl q545) dX0_back_29 ?_
    refine w_top (z' := (wk.length : Int)) (gu_s _ _ _ _ _) ?_
    refine w_keptN F (by omega) (by omega) dX0_back_32 ?_
    refine w_callV F (As := [_]) (ct_copyS hE (gu γ 1 5 0 (wk.length : Int)) (k := 1) (k2 := 3 + wk.length) (by omega) (by omega) (by omega)) (lw_V q528 q529 q530 q71 q531) md_X1_copy (by omega) (cell_stO (by omega)) rfl rfl rfl rfl (Nat.le_of_ble_eq_true rfl) dX0_back_33 ⟨by omega, by omega⟩ ⟨by omega, by omega⟩ ?_
    rintro _ g1 ⟨rfl, c1, o1⟩
    have e1 : g1 1 = gu γ 1 5 0 (wk.length : Int) 1 := o1 1 (by omega)
    have eo : ∀ o, o ≠ 1 → o ≠ 3 → g1 o = γ o := fun o p1 p2 => by rw [o1 o (by omega), gu_o p1]
    refine w_aload_n F dX0_back_36 rfl rfl ?_
    refine w_iconst F dX0_back_37 ?_
    refine w_putF F (fD7 _) (by omega) rfl in_X0 tyX0 tyX0_ok nmX0 (by decide) (Or.inl q547) rfl rfl rfl (by first | assumption | exact inR0 | exact (hR _ _ _).1 | (constructor <;> omega)) (fun h => by cases h) (fun h => by cases h) dX0_back_38 ?_
    refine w_aload_n F dX0_back_41 rfl rfl ?_
    refine w_getF F (fD5 _) (by omega) rfl in_X0 (by decide) (Or.inl q545) dX0_back_42 ?_
    refine w_top (z' := (wk.length : Int)) (by rw [gu_f (by decide), e1]; exact gu_s _ _ _ _ _) ?_
    have e6 : gu g1 1 7 0 0 1 6 = γ 1 6 := by rw [gu_f (by decide), e1, gu_f (by decide)]
    have hfin : DF (gu g1 1 7 0 0) w [] wk := by
      refine ⟨?_, q2, gu_s _ _ _ _ _, by simp, fun i z hz => by simp at hz, by rw [gu_f (by decide), e1]; exact gu_s _ _ _ _ _, by omega, fun i z hz => ?_, by rw [e6]; exact h9, by rw [e6]; exact h10⟩
      · rw [gu_o (by decide)]
        refine SV.cp (σ := γ (5 + wk.length)) q1 q2 ?_
        rw [gu_o (by omega), show 2 + (3 + wk.length) = 5 + wk.length by omega] at c1
        exact c1
      · have hi := (List.getElem?_eq_some_iff.mp hz).1
        rw [gu_o (by omega), eo _ (by omega) (by omega)]
        exact h8 i z (by rw [hvk, List.getElem?_append_left hi]; exact hz)
    exact w_iret F (by omega) (by omega) (⟨by rw [gu_o (by decide)]; exact eo 0 (by decide) (by omega), fun f p1 p2 => by rw [gu_f p1, e1, gu_f p2], Or.inr ⟨wk, w, hvk, rfl, hfin⟩⟩) dX0_back_45
  · refine w_bipush F dX0_back_7 rfl ?_
    exact w_iret F (by omega) (by omega) (⟨rfl, fun _ _ _ => rfl, Or.inl ⟨List.length_eq_zero_iff.mp (by omega), rfl, hF⟩⟩) dX0_back_9
end D3
