/-! the model: undo, keep, back -/
theorem MV.taken {γ g : GG} {A : Nat → Int} {w : VV} {Lb : Int} (h : SnOk Lb A w) (k : TK γ g A (PK2 24)) : MV (g 0) w.1 w.2.1 w.2.2 ∧ (0 ≤ g 0 11 0 ∧ g 0 11 0 ≤ Lb) := by
  refine ⟨h.1.cong h.2.2 (fun f i hp => k.1 f i hp), ?_⟩
  have : g 0 11 0 = A 2 := k.1 11 0 (Or.inr (Or.inr (Or.inl ⟨rfl, rfl⟩)))
  rw [this]
  exact h.2.1
section M16
variable {l : Launch} {E : EE}
theorem ct_undoM (hE : EOk E) (hm : 438 ≤ E.nk) (γ : GG) {Lb : Int} {v : VV} {vu vk : List VV} (hF : MF (γ 0) Lb v vu vk) : Ct l yX8_undo cX8_undo 1 (some .int) E 600 36000 [.ref (E.ad 414)] γ (fun r g => Off0 offA γ g ∧ ((vu = [] ∧ r = some (.int (iI (-2))) ∧ MF (g 0) (Lb + 1) v vu vk) ∨ ∃ wu w, vu = wu ++ [w] ∧ r = some (.int (iI (wu.length : Int))) ∧ MF (g 0) (Lb + 1) w wu vk)) 0 0 := by
  refine Ct.of hE (by decide) (Nat.le_of_ble_eq_true rfl) (fun Φ hLn hΦ F hfr hlo => ?_)
  subst hLn; subst hΦ
  have h414 := F.ok.1.2.2
  have hrc := F.rc
  have hrs := F.rs
  show Wg Φ 1 _ 0 0 0 [(0, _)] []
  refine w_rng (fun hR => ?_)
  obtain ⟨f1, f2, f3, f4, f5, f6, f7, f8, f9⟩ := id hF
  refine w_aload_n F dX8_undo_0 rfl rfl ?_
  refine w_getF F (fM20 _) (by omega) rfl in_X8 (by decide) (Or.inl q892) dX8_undo_1 ?_
  refine w_top f4 ?_
  rcases List.eq_nil_or_concat vu with e | ⟨wu, w, e⟩
  · refine w_if_ne F (tgt := 10) dX8_undo_4 (by decide) (by first | assumption | exact inR0 | exact (hR _ _ _).1 | (constructor <;> omega)) (fun h => ?_) (fun h => ?_)
    · rw [e] at h
      simp at h
    · refine w_bipush F dX8_undo_7 rfl ?_
      exact w_iret F (by omega) (by omega) (⟨Off0.rf, Or.inl ⟨e, rfl, hF.mono (by omega)⟩⟩) dX8_undo_9
  · rw [List.concat_eq_append] at e
    have hl : vu.length = wu.length + 1 := by rw [e]; simp
    refine w_if_ne F (tgt := 10) dX8_undo_4 (by decide) (by first | assumption | exact inR0 | exact (hR _ _ _).1 | (constructor <;> omega)) (fun h => ?_) (fun h => ?_)
    · refine w_aload_n F dX8_undo_10 rfl rfl ?_
      refine w_dup F dX8_undo_11 rfl ?_
      refine w_getF F (fM20 _) (by omega) rfl in_X8 (by decide) (Or.inl q892) dX8_undo_12 ?_
      refine w_top f4 ?_
      refine w_iconst F dX8_undo_15 ?_
      refine w_isub F dX8_undo_16 ?_
      refine w_top (z' := (wu.length : Int)) (by omega) ?_
      refine w_putF F (fM20 _) (by omega) rfl in_X8 tyX8 tyX8_ok nmX8 (by decide) (Or.inl q892) rfl rfl rfl (by first | assumption | exact inR0 | exact (hR _ _ _).1 | (constructor <;> omega)) (fun h => by cases h) (fun h => by cases h) dX8_undo_17 ?_
      refine w_aload_n F dX8_undo_20 rfl rfl ?_
      refine w_aload_n F dX8_undo_21 rfl rfl ?_
      refine w_get F (by omega) cell_mdO rfl in_X8 19 (by decide) (Or.inl q891) rfl dX8_undo_22 ?_
      refine w_sipush F dX8_undo_25 rfl ?_
      refine w_aload_n F dX8_undo_28 rfl rfl ?_
      refine w_getF F (fM20 _) (by omega) rfl in_X8 (by decide) (Or.inl q892) dX8_undo_29 ?_
      refine w_top (z' := (wu.length : Int)) (gu_s _ _ _ _ _) ?_
      refine w_imul F dX8_undo_32 ?_
      refine w_top (z' := ((171 * wu.length : Nat) : Int)) (by omega) ?_
      have o1 : Off0 [20] γ (gu γ 0 20 0 (wu.length : Int)) := Off0.rf.up (by decide)
      refine w_callV F (As := [_, _]) (ct_takes hE hm _ (aM19 _) (by omega) (Or.inl rfl) (by decide) (a := 171 * wu.length) (by omega)) (lw_V q1066 q1068 qs60 q88 q1069) md_X8_takes (by omega) cell_mdO rfl rfl rfl rfl (Nat.le_of_ble_eq_true rfl) dX8_undo_33 ⟨by omega, by omega⟩ ⟨by omega, by omega⟩ ?_
      rintro _ g2 ⟨rfl, hk⟩
      rw [o1.f 19 rfl] at hk
      have hs : SnOk Lb (fun q => γ 0 19 (171 * wu.length + q)) w := f6 wu.length w (by rw [e]; simp)
      obtain ⟨m1, m2⟩ := MV.taken hs hk
      refine w_aload_n F dX8_undo_36 rfl rfl ?_
      refine w_getF F (fM20 _) (by omega) rfl in_X8 (by decide) (Or.inl q892) dX8_undo_37 ?_
      have h20 : g2 0 20 0 = (wu.length : Int) := by rw [hk.2.f 20 rfl, gu_s]
      have hres : MF (g2 0) (Lb + 1) w wu vk := ⟨m1, by omega, hs.2.2, h20, by omega, by
        rw [hk.2.f 19 rfl, o1.f 19 rfl]
        exact fun i x hx => (f6 i x (by rw [e, List.getElem?_append_left (List.getElem?_eq_some_iff.mp hx).1]; exact hx)).mono (by omega), by rw [hk.2.f 22 rfl, o1.f 22 rfl]; exact f7, f8, by rw [hk.2.f 21 rfl, o1.f 21 rfl]; exact f9.mono (by omega)⟩
      exact w_iret F (by omega) (by omega) (⟨(o1.mono (by decide)).tr (hk.2.mono (by decide)), Or.inr ⟨wu, w, e, by rw [h20], hres⟩⟩) dX8_undo_40
    · omega
theorem ct_keepM (hE : EOk E) (hm : 438 ≤ E.nk) (γ : GG) {Lb : Int} {v : VV} {vu vk : List VV} (hF : MF (γ 0) Lb v vu vk) : Ct l yX8_keep cX8_keep 1 (some .int) E 600 36000 [.ref (E.ad 414)] γ (fun r g => Off0 offA γ g ∧ ((vk.length = 2 ∧ r = some (.int (iI (-3))) ∧ MF (g 0) (Lb + 1) v vu vk) ∨ (vk.length ≠ 2 ∧ r = some (.int (iI ((vk.length : Int) + 1))) ∧ MF (g 0) (Lb + 1) v vu (vk ++ [v])))) 0 0 := by
  refine Ct.of hE (by decide) (Nat.le_of_ble_eq_true rfl) (fun Φ hLn hΦ F hfr hlo => ?_)
  subst hLn; subst hΦ
  have h414 := F.ok.1.2.2
  have hrc := F.rc
  have hrs := F.rs
  show Wg Φ 1 _ 0 0 0 [(0, _)] []
  refine w_rng (fun hR => ?_)
  obtain ⟨f1, f2, f3, f4, f5, f6, f7, f8, f9⟩ := id hF
  refine w_aload_n F dX8_keep_0 rfl rfl ?_
  refine w_getF F (fM22 _) (by omega) rfl in_X8 (by decide) (Or.inl q894) dX8_keep_1 ?_
  refine w_top f7 ?_
  refine w_iconst F dX8_keep_4 ?_
  refine w_icmp_ne F (tgt := 11) dX8_keep_5 (by decide) (by first | assumption | exact inR0 | exact (hR _ _ _).1 | (constructor <;> omega)) (by first | assumption | exact inR0 | exact (hR _ _ _).1 | (constructor <;> omega)) (fun h => ?_) (fun h => ?_)
  · refine w_aload_n F dX8_keep_11 rfl rfl ?_
    refine w_aload_n F dX8_keep_12 rfl rfl ?_
    refine w_get F (by omega) cell_mdO rfl in_X8 21 (by decide) (Or.inl q893) rfl dX8_keep_13 ?_
    refine w_sipush F dX8_keep_16 rfl ?_
    refine w_aload_n F dX8_keep_19 rfl rfl ?_
    refine w_getF F (fM22 _) (by omega) rfl in_X8 (by decide) (Or.inl q894) dX8_keep_20 ?_
    refine w_top f7 ?_
    refine w_imul F dX8_keep_23 ?_
    refine w_top (z' := ((171 * vk.length : Nat) : Int)) (by omega) ?_
    refine w_callV F (As := [_, _]) (ct_lays hE hm γ (aM21 _) (by omega) (Or.inr (Or.inl rfl)) (by decide) (a := 171 * vk.length) (by omega)) (lw_V q1038 q1040 qs57 q88 q1041) md_X8_lays (by omega) cell_mdO rfl rfl rfl rfl (Nat.le_of_ble_eq_true rfl) dX8_keep_24 ⟨by omega, by omega⟩ ⟨by omega, by omega⟩ ?_
    rintro _ g2 ⟨rfl, hg⟩
    refine w_aload_n F dX8_keep_27 rfl rfl ?_
    refine w_dup F dX8_keep_28 rfl ?_
    refine w_getF F (fM22 _) (by omega) rfl in_X8 (by decide) (Or.inl q894) dX8_keep_29 ?_
    refine w_top (z' := (vk.length : Int)) (by rw [hg.2.2.f 22 rfl]; exact f7) ?_
    refine w_iconst F dX8_keep_32 ?_
    refine w_iadd F dX8_keep_33 ?_
    refine w_putF F (fM22 _) (by omega) rfl in_X8 tyX8 tyX8_ok nmX8 (by decide) (Or.inl q894) rfl rfl rfl (by first | assumption | exact inR0 | exact (hR _ _ _).1 | (constructor <;> omega)) (fun h => by cases h) (fun h => by cases h) dX8_keep_34 ?_
    refine w_aload_n F dX8_keep_37 rfl rfl ?_
    refine w_getF F (fM22 _) (by omega) rfl in_X8 (by decide) (Or.inl q894) dX8_keep_38 ?_
    refine w_top (z' := (vk.length : Int) + 1) (gu_s _ _ _ _ _) ?_
    have o3 : Off0 [21, 22] γ (gu g2 0 22 0 ((vk.length : Int) + 1)) := (hg.2.2.mono (by decide)).up (by decide)
    have hsn := sn_laid (Lb := Lb) hg f1 f2 f3
    have hres : MF ((gu g2 0 22 0 ((vk.length : Int) + 1)) 0) (Lb + 1) v vu (vk ++ [v]) := by
      refine ⟨f1.cong f3 (fun f i hp => by rw [o3 0 f (by unfold PK2 at hp; simp; omega)]), by rw [o3.f 11 rfl]; omega, f3, by rw [o3.f 20 rfl]; exact f4, f5, by rw [o3.f 19 rfl]; exact f6.mono (by omega), by rw [gu_s]; simp, by simp; omega, ?_⟩
      rw [gu_f (by decide)]
      intro i w hw
      by_cases e : i < vk.length
      · rw [List.getElem?_append_left e] at hw
        refine ((f9 i w hw).mono (by omega)).cg (fun q hq => hg.2.1 _ (fun z => ?_))
        omega
      · have e2 := (List.getElem?_eq_some_iff.mp hw).1
        simp at e2
        have e3 : i = vk.length := by omega
        subst e3
        simp at hw
        rw [← hw]
        exact hsn.mono (by omega)
    exact w_iret F (by omega) (by omega) (⟨o3.mono (by decide), Or.inr ⟨by omega, rfl, hres⟩⟩) dX8_keep_41
  · refine w_bipush F dX8_keep_8 rfl ?_
    exact w_iret F (by omega) (by omega) (⟨Off0.rf, Or.inl ⟨by omega, rfl, hF.mono (by omega)⟩⟩) dX8_keep_10
theorem ct_backM (hE : EOk E) (hm : 438 ≤ E.nk) (γ : GG) {Lb : Int} {v : VV} {vu vk : List VV} (hF : MF (γ 0) Lb v vu vk) : Ct l yX8_back cX8_back 1 (some .int) E 600 36000 [.ref (E.ad 414)] γ (fun r g => Off0 offA γ g ∧ ((vk = [] ∧ r = some (.int (iI (-2))) ∧ MF (g 0) (Lb + 1) v vu vk) ∨ ∃ wk w, vk = wk ++ [w] ∧ r = some (.int (iI (wk.length : Int))) ∧ MF (g 0) (Lb + 1) w [] wk)) 0 0 := by
  refine Ct.of hE (by decide) (Nat.le_of_ble_eq_true rfl) (fun Φ hLn hΦ F hfr hlo => ?_)
  subst hLn; subst hΦ
  have h414 := F.ok.1.2.2
  have hrc := F.rc
  have hrs := F.rs
  show Wg Φ 1 _ 0 0 0 [(0, _)] []
  refine w_rng (fun hR => ?_)
  obtain ⟨f1, f2, f3, f4, f5, f6, f7, f8, f9⟩ := id hF
  refine w_aload_n F dX8_back_0 rfl rfl ?_
  refine w_getF F (fM22 _) (by omega) rfl in_X8 (by decide) (Or.inl q894) dX8_back_1 ?_
  refine w_top f7 ?_
  rcases List.eq_nil_or_concat vk with e | ⟨wk, w, e⟩
  · refine w_if_ne F (tgt := 10) dX8_back_4 (by decide) (by first | assumption | exact inR0 | exact (hR _ _ _).1 | (constructor <;> omega)) (fun h => ?_) (fun h => ?_)
    · rw [e] at h
      simp at h
    · refine w_bipush F dX8_back_7 rfl ?_
      exact w_iret F (by omega) (by omega) (⟨Off0.rf, Or.inl ⟨e, rfl, hF.mono (by omega)⟩⟩) dX8_back_9
  · rw [List.concat_eq_append] at e
    have hl : vk.length = wk.length + 1 := by rw [e]; simp
    refine w_if_ne F (tgt := 10) dX8_back_4 (by decide) (by first | assumption | exact inR0 | exact (hR _ _ _).1 | (constructor <;> omega)) (fun h => ?_) (fun h => ?_)
    · refine w_aload_n F dX8_back_10 rfl rfl ?_
      refine w_dup F dX8_back_11 rfl ?_
      refine w_getF F (fM22 _) (by omega) rfl in_X8 (by decide) (Or.inl q894) dX8_back_12 ?_
      refine w_top f7 ?_
      refine w_iconst F dX8_back_15 ?_
      refine w_isub F dX8_back_16 ?_
      refine w_top (z' := (wk.length : Int)) (by omega) ?_
      refine w_putF F (fM22 _) (by omega) rfl in_X8 tyX8 tyX8_ok nmX8 (by decide) (Or.inl q894) rfl rfl rfl (by first | assumption | exact inR0 | exact (hR _ _ _).1 | (constructor <;> omega)) (fun h => by cases h) (fun h => by cases h) dX8_back_17 ?_
      refine w_aload_n F dX8_back_20 rfl rfl ?_
      refine w_aload_n F dX8_back_21 rfl rfl ?_
      refine w_get F (by omega) cell_mdO rfl in_X8 21 (by decide) (Or.inl q893) rfl dX8_back_22 ?_
      refine w_sipush F dX8_back_25 rfl ?_
      refine w_aload_n F dX8_back_28 rfl rfl ?_
      refine w_getF F (fM22 _) (by omega) rfl in_X8 (by decide) (Or.inl q894) dX8_back_29 ?_
      refine w_top (z' := (wk.length : Int)) (gu_s _ _ _ _ _) ?_
      refine w_imul F dX8_back_32 ?_
      refine w_top (z' := ((171 * wk.length : Nat) : Int)) (by omega) ?_
      have o1 : Off0 [22] γ (gu γ 0 22 0 (wk.length : Int)) := Off0.rf.up (by decide)
      refine w_callV F (As := [_, _]) (ct_takes hE hm _ (aM21 _) (by omega) (Or.inr (Or.inl rfl)) (by decide) (a := 171 * wk.length) (by omega)) (lw_V q1066 q1068 qs60 q88 q1069) md_X8_takes (by omega) cell_mdO rfl rfl rfl rfl (Nat.le_of_ble_eq_true rfl) dX8_back_33 ⟨by omega, by omega⟩ ⟨by omega, by omega⟩ ?_
      rintro _ g2 ⟨rfl, hk⟩
      rw [o1.f 21 rfl] at hk
      have hs : SnOk Lb (fun q => γ 0 21 (171 * wk.length + q)) w := f9 wk.length w (by rw [e]; simp)
      obtain ⟨m1, m2⟩ := MV.taken hs hk
      refine w_aload_n F dX8_back_36 rfl rfl ?_
      refine w_iconst F dX8_back_37 ?_
      refine w_putF F (fM20 _) (by omega) rfl in_X8 tyX8 tyX8_ok nmX8 (by decide) (Or.inl q892) rfl rfl rfl (by first | assumption | exact inR0 | exact (hR _ _ _).1 | (constructor <;> omega)) (fun h => by cases h) (fun h => by cases h) dX8_back_38 ?_
      refine w_aload_n F dX8_back_41 rfl rfl ?_
      refine w_getF F (fM22 _) (by omega) rfl in_X8 (by decide) (Or.inl q894) dX8_back_42 ?_
      have o3 : Off0 [20] g2 (gu g2 0 20 0 0) := Off0.rf.up (by decide)
      have h22 : (gu g2 0 20 0 0) 0 22 0 = (wk.length : Int) := by rw [o3.f 22 rfl, hk.2.f 22 rfl, gu_s]
      have hres : MF ((gu g2 0 20 0 0) 0) (Lb + 1) w [] wk := ⟨m1.cong hs.2.2 (fun f i hp => by rw [o3 0 f (by unfold PK2 at hp; simp; omega)]), by rw [o3.f 11 rfl]; omega, hs.2.2, by rw [gu_s]; rfl, by simp, fun i x hx => by simp at hx, h22, by omega, by
        rw [o3.f 21 rfl, hk.2.f 21 rfl, o1.f 21 rfl]
        exact fun i x hx => (f9 i x (by rw [e, List.getElem?_append_left (List.getElem?_eq_some_iff.mp hx).1]; exact hx)).mono (by omega)⟩
      exact w_iret F (by omega) (by omega) (⟨((o1.mono (by decide)).tr (hk.2.mono (by decide))).tr (o3.mono (by decide)), Or.inr ⟨wk, w, e, by rw [h22], hres⟩⟩) dX8_back_45
    · omega
end M16
