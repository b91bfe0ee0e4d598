/-! the model: the text -/
/-- the text that is written -/
def TXT (σ : Nat → Nat → Int) (cs : List Int) : Prop := σ 28 0 = (cs.length : Int) ∧ cs.length ≤ 200 ∧ HL (σ 27) cs ∧ ∀ c ∈ cs, 32 ≤ c ∧ c ≤ 126
def chT (cs : List Int) (p : Nat) : Int := cs.getD p 0
theorem TXT.ch {σ : Nat → Nat → Int} {cs : List Int} (h : TXT σ cs) (p : Nat) : 0 ≤ chT cs p ∧ chT cs p ≤ 126 := by
  unfold chT
  rw [List.getD_eq_getElem?_getD]
  cases e : cs[p]? with
  | none => simp
  | some c => have := h.2.2.2 c (List.mem_of_getElem? e); simp; omega
section M27
variable {l : Launch} {E : EE}
theorem ct_writeM (hE : EOk E) (hm : 438 ≤ E.nk) (γ : GG) {cs : List Int} (hT : TXT (γ 0) cs) {c : Int} (hc : InR c) : Ct l yX8_write cX8_write 2 (some .int) E 600 36000 [.ref (E.ad 414), .int (iI c)] γ (fun r g => Off0 [27, 28] γ g ∧ ((¬ (32 ≤ c ∧ c ≤ 126) ∧ r = some (.int (iI (-1))) ∧ TXT (g 0) cs) ∨ ((32 ≤ c ∧ c ≤ 126) ∧ cs.length = 200 ∧ r = some (.int (iI (-3))) ∧ TXT (g 0) cs) ∨ ((32 ≤ c ∧ c ≤ 126) ∧ cs.length ≠ 200 ∧ r = some (.int (iI ((cs.length : Int) + 1))) ∧ TXT (g 0) (cs ++ [c])))) 0 0 := by
  refine Ct.of hE (by decide) (Nat.le_of_ble_eq_true rfl) (fun Φ hLn hΦ F hfr hlo => ?_)
  subst hLn; subst hΦ
  have h414 := F.ok.1.2.2
  have hrc := F.rc
  have hrs := F.rs
  show Wg Φ 2 _ 0 0 0 [(0, _), (1, _)] []
  refine w_rng (fun hR => ?_)
  obtain ⟨t1, t2, t3, t4⟩ := id hT
  refine w_iload_n F dX8_write_0 rfl ?_
  refine w_bipush F dX8_write_1 rfl ?_
  refine w_bipush F dX8_write_3 rfl ?_
  refine w_callS F (As := [_, _, _]) (ct_in hE γ hc (by decide) (by decide)) (lw_S q980 q981 q88 q982) md_X8_in rfl rfl (Nat.le_of_ble_eq_true rfl) dX8_write_5 ⟨by omega, by omega⟩ ⟨by omega, by omega⟩ ?_
  rintro _ _ ⟨rfl, rfl⟩
  refine w_if_ne F (tgt := 13) dX8_write_8 (by decide) (b2i_R _) (fun h => ?_) (fun h => ?_)
  · rw [b2i_n0] at h
    refine w_aload_n F dX8_write_13 rfl rfl ?_
    refine w_getF F (fM28 _) (by omega) rfl in_X8 (by decide) (Or.inl q900) dX8_write_14 ?_
    refine w_top t1 ?_
    refine w_sipush F dX8_write_17 rfl ?_
    refine w_icmp_ne F (tgt := 26) dX8_write_20 (by decide) (by first | assumption | exact inR0 | exact (hR _ _ _).1 | (constructor <;> omega)) (by first | assumption | exact inR0 | exact (hR _ _ _).1 | (constructor <;> omega)) (fun h2 => ?_) (fun h2 => ?_)
    · refine w_aload_n F dX8_write_26 rfl rfl ?_
      refine w_get F (by omega) cell_mdO rfl in_X8 27 (by decide) (Or.inl q899) rfl dX8_write_27 ?_
      refine w_aload_n F dX8_write_30 rfl rfl ?_
      refine w_getF F (fM28 _) (by omega) rfl in_X8 (by decide) (Or.inl q900) dX8_write_31 ?_
      refine w_top t1 ?_
      refine w_iload_n F dX8_write_34 rfl ?_
      first | refine w_iastN F (aM27 _) (by omega) (by decide) rfl rfl (by first | assumption | exact inR0 | exact (hR _ _ _).1 | (constructor <;> omega)) (by omega) dX8_write_35 ?_ | refine w_iast F (aM27 _) (by omega) (by decide) rfl rfl (by first | assumption | exact inR0 | exact (hR _ _ _).1 | (constructor <;> omega)) (by omega) (by omega) dX8_write_35 ?_
      refine w_aload_n F dX8_write_36 rfl rfl ?_
      refine w_dup F dX8_write_37 rfl ?_
      refine w_getF F (fM28 _) (by omega) rfl in_X8 (by decide) (Or.inl q900) dX8_write_38 ?_
      refine w_top (z' := (cs.length : Int)) (by rw [gu_f (by decide)]; exact t1) ?_
      refine w_iconst F dX8_write_41 ?_
      refine w_iadd F dX8_write_42 ?_
      refine w_putF F (fM28 _) (by omega) rfl in_X8 tyX8 tyX8_ok nmX8 (by decide) (Or.inl q900) rfl rfl rfl (by first | assumption | exact inR0 | exact (hR _ _ _).1 | (constructor <;> omega)) (fun h => by cases h) (fun h => by cases h) dX8_write_43 ?_
      refine w_aload_n F dX8_write_46 rfl rfl ?_
      refine w_getF F (fM28 _) (by omega) rfl in_X8 (by decide) (Or.inl q900) dX8_write_47 ?_
      refine w_top (z' := (cs.length : Int) + 1) (gu_s _ _ _ _ _) ?_
      exact w_iret F (by omega) (by omega) (⟨(Off0.rf.up (by decide)).up (by decide), Or.inr (Or.inr ⟨h, by omega, rfl, by rw [gu_s]; simp, by simp; omega, (t3.sn rfl).ot (by decide), fun z hz => by rcases List.mem_append.mp hz with q | q; exact t4 z q; simp at q; rw [q]; exact h⟩)⟩) dX8_write_50
    · refine w_bipush F dX8_write_23 rfl ?_
      exact w_iret F (by omega) (by omega) (⟨Off0.rf, Or.inr (Or.inl ⟨h, by omega, rfl, hT⟩)⟩) dX8_write_25
  · rw [b2i_0] at h
    refine w_iconst F dX8_write_11 ?_
    exact w_iret F (by omega) (by omega) (⟨Off0.rf, Or.inl ⟨h, rfl, hT⟩⟩) dX8_write_12
theorem ct_wipeM (hE : EOk E) (hm : 438 ≤ E.nk) (γ : GG) {cs : List Int} (hT : TXT (γ 0) cs) : Ct l yX8_wipe cX8_wipe 2 (some .int) E 600 36000 [.ref (E.ad 414)] γ (fun r g => Off0 [27, 28] γ g ∧ r = some (.int (iI (cs.length : Int))) ∧ TXT (g 0) []) 0 0 := by
  refine Ct.of hE (by decide) (Nat.le_of_ble_eq_true rfl) (fun Φ hLn hΦ F hfr hlo => ?_)
  subst hLn; subst hΦ
  have h414 := F.ok.1.2.2
  have hrc := F.rc
  have hrs := F.rs
  show Wg Φ 2 _ 0 0 0 [(0, _)] []
  refine w_rng (fun hR => ?_)
  refine w_aload_n F dX8_wipe_0 rfl rfl ?_
  refine w_getF F (fM28 _) (by omega) rfl in_X8 (by decide) (Or.inl q900) dX8_wipe_1 ?_
  refine w_top hT.1 ?_
  refine w_istore_n F dX8_wipe_4 (by decide) rfl (lv' := [(0, _), (1, _)]) rfl ?_
  refine w_aload_n F dX8_wipe_5 rfl rfl ?_
  refine w_iconst F dX8_wipe_6 ?_
  refine w_putF F (fM28 _) (by omega) rfl in_X8 tyX8 tyX8_ok nmX8 (by decide) (Or.inl q900) rfl rfl rfl (by first | assumption | exact inR0 | exact (hR _ _ _).1 | (constructor <;> omega)) (fun h => by cases h) (fun h => by cases h) dX8_wipe_7 ?_
  refine w_iload_n F dX8_wipe_10 rfl ?_
  exact w_iret F (by omega) (by omega) (⟨Off0.rf.up (by decide), rfl, gu_s _ _ _ _ _, by simp, HL.nil _, by simp⟩) dX8_wipe_11
theorem ct_here (hE : EOk E) (hm : 438 ≤ E.nk) (γ : GG) {cs : List Int} (hT : TXT (γ 0) cs) {p : Nat} (hp : γ 0 29 0 = (p : Int)) (hp2 : p ≤ 200) : Ct l yX8_here cX8_here 1 (some .int) E 100 16000 [.ref (E.ad 414)] γ (pI (chT cs p) γ) 0 0 := by
  refine Ct.of hE (by decide) (Nat.le_of_ble_eq_true rfl) (fun Φ hLn hΦ F hfr hlo => ?_)
  subst hLn; subst hΦ
  have h414 := F.ok.1.2.2
  have hrc := F.rc
  have hrs := F.rs
  show Wg Φ 1 _ 0 0 0 [(0, _)] []
  refine w_rng (fun hR => ?_)
  obtain ⟨t1, t2, t3, t4⟩ := id hT
  refine w_aload_n F dX8_here_0 rfl rfl ?_
  refine w_getF F (fM29 _) (by omega) rfl in_X8 (by decide) (Or.inl q901) dX8_here_1 ?_
  refine w_top hp ?_
  refine w_aload_n F dX8_here_4 rfl rfl ?_
  refine w_getF F (fM28 _) (by omega) rfl in_X8 (by decide) (Or.inl q900) dX8_here_5 ?_
  refine w_top t1 ?_
  refine w_icmp_ge F (tgt := 23) dX8_here_8 (by decide) (by first | assumption | exact inR0 | exact (hR _ _ _).1 | (constructor <;> omega)) (by first | assumption | exact inR0 | exact (hR _ _ _).1 | (constructor <;> omega)) (fun h => ?_) (fun h => ?_)
  · refine w_iconst F dX8_here_23 ?_
    exact w_iret F (by omega) (by omega) (⟨by unfold chT; rw [List.getD_eq_getElem?_getD, List.getElem?_eq_none (by omega)]; rfl, rfl⟩) dX8_here_24
  · refine w_aload_n F dX8_here_11 rfl rfl ?_
    refine w_get F (by omega) cell_mdO rfl in_X8 27 (by decide) (Or.inl q899) rfl dX8_here_12 ?_
    refine w_aload_n F dX8_here_15 rfl rfl ?_
    refine w_getF F (fM29 _) (by omega) rfl in_X8 (by decide) (Or.inl q901) dX8_here_16 ?_
    refine w_top hp ?_
    first | refine w_ialdN F (aM27 _) (by omega) (by decide) (by omega) dX8_here_19 ?_ | refine w_iald F (aM27 _) (by omega) (by decide) (by omega) (by omega) dX8_here_19 ?_
    refine w_top (z' := chT cs p) (t3 p _ (by unfold chT; rw [List.getD_eq_getElem?_getD, List.getElem?_eq_getElem (by omega)]; rfl)) ?_
    refine w_goto F (tgt := 24) dX8_here_20 (by decide) ?_
    exact w_iret F (by omega) (by omega) (⟨rfl, rfl⟩) dX8_here_24
theorem ct_isFigure (hE : EOk E) (hm : 438 ≤ E.nk) (γ : GG) {cs : List Int} (hT : TXT (γ 0) cs) {p : Nat} (hp : γ 0 29 0 = (p : Int)) (hp2 : p ≤ 200) : Ct l yX8_isFigure cX8_isFigure 1 (some .boolean) E 200 20000 [.ref (E.ad 414)] γ (pI (b2i (48 ≤ chT cs p ∧ chT cs p ≤ 57)) γ) 0 0 := by
  refine Ct.of hE (by decide) (Nat.le_of_ble_eq_true rfl) (fun Φ hLn hΦ F hfr hlo => ?_)
  subst hLn; subst hΦ
  have h414 := F.ok.1.2.2
  have hrc := F.rc
  have hrs := F.rs
  show Wg Φ 1 _ 0 0 0 [(0, _)] []
  refine w_rng (fun hR => ?_)
  have hc := hT.ch p
  refine w_aload_n F dX8_isFigure_0 rfl rfl ?_
  refine w_callV F (As := []) (ct_here hE hm γ hT hp hp2) (lw_V q1156 q1158 qs66 q88 q1159) md_X8_here (by omega) cell_mdO rfl rfl rfl rfl (Nat.le_of_ble_eq_true rfl) dX8_isFigure_1 ⟨by omega, by omega⟩ ⟨by omega, by omega⟩ ?_
  rintro _ _ ⟨rfl, rfl⟩
  refine w_bipush F dX8_isFigure_4 rfl ?_
  refine w_bipush F dX8_isFigure_6 rfl ?_
  refine w_callS F (As := [_, _, _]) (ct_in hE γ (v := chT cs p) (by omega) (by decide) (by decide)) (lw_S q980 q981 q88 q982) md_X8_in rfl rfl (Nat.le_of_ble_eq_true rfl) dX8_isFigure_8 ⟨by omega, by omega⟩ ⟨by omega, by omega⟩ ?_
  rintro _ _ ⟨rfl, rfl⟩
  have hz : b2i (48 ≤ chT cs p ∧ chT cs p ≤ 57) = 0 ∨ b2i (48 ≤ chT cs p ∧ chT cs p ≤ 57) = 1 := by unfold b2i; split <;> simp
  exact w_zret F (by first | exact Or.inl rfl | exact Or.inr rfl | assumption | omega) (by omega) (by omega) (⟨rfl, rfl⟩) dX8_isFigure_11
theorem ct_empties (hE : EOk E) (hm : 438 ≤ E.nk) (γ : GG) : Ct l yX8_empties cX8_empties 2 none E 200 20000 [.ref (E.ad 414)] γ (fun r g => r = none ∧ ME (g 0) ∧ Off0 [0, 5, 6] γ g) 0 0 := by
  refine Ct.of hE (by decide) (Nat.le_of_ble_eq_true rfl) (fun Φ hLn hΦ F hfr hlo => ?_)
  subst hLn; subst hΦ
  have h414 := F.ok.1.2.2
  have hrc := F.rc
  have hrs := F.rs
  show Wg Φ 2 _ 0 0 0 [(0, _)] []
  refine w_rng (fun hR => ?_)
  refine w_aload_n F dX8_empties_0 rfl rfl ?_
  refine w_iconst F dX8_empties_1 ?_
  refine w_putF F (fM0 _) (by omega) rfl in_X8 tyX8 tyX8_ok nmX8 (by decide) (Or.inl q872) rfl rfl rfl (by first | assumption | exact inR0 | exact (hR _ _ _).1 | (constructor <;> omega)) (fun h => by cases h) (fun h => by cases h) dX8_empties_2 ?_
  refine w_aload_n F dX8_empties_5 rfl rfl ?_
  refine w_bipush F dX8_empties_6 rfl ?_
  refine w_putF F (fM5 _) (by omega) rfl in_X8 tyX8 tyX8_ok nmX8 (by decide) (Or.inl q877) rfl rfl rfl (by first | assumption | exact inR0 | exact (hR _ _ _).1 | (constructor <;> omega)) (fun h => by cases h) (fun h => by cases h) dX8_empties_8 ?_
  refine w_iconst F dX8_empties_11 ?_
  refine w_istore_n F dX8_empties_12 (by decide) rfl (lv' := [(0, _), (1, _)]) rfl ?_
  have loop : ∀ (m j : Nat) (g : GG), j ≤ 24 → 24 - j < m → g 0 0 0 = 0 → g 0 5 0 = -4 → (∀ i, i < j → g 0 6 i = -2) → Off0 [0, 5, 6] γ g → Wg Φ 2 g 0 0 13 [(0, .ref (Φ.E.ad 414)), (1, .int (iI (j : Int)))] [] := by
    intro m
    induction m with
    | zero => intro j g h1 h2; omega
    | succ m ih =>
      intro j g h1 h2 h3 h4 h5 h6
      refine w_iload_n F dX8_empties_13 rfl ?_
      refine w_bipush F dX8_empties_14 rfl ?_
      refine w_icmp_ge F (tgt := 33) dX8_empties_16 (by decide) (by first | assumption | exact inR0 | exact (hR _ _ _).1 | (constructor <;> omega)) (by first | assumption | exact inR0 | exact (hR _ _ _).1 | (constructor <;> omega)) (fun h => ?_) (fun h => ?_)
      · skip
        exact w_vret F (by omega) (by omega) (⟨rfl, ⟨h3, h4, by simp, by simp, fun z hz => ⟨fun _ => by simp, fun _ => h5 z (by omega)⟩⟩, h6⟩) dX8_empties_33
      · refine w_aload_n F dX8_empties_19 rfl rfl ?_
        refine w_get F (by omega) cell_mdO rfl in_X8 6 (by decide) (Or.inl q878) rfl dX8_empties_20 ?_
        refine w_iload_n F dX8_empties_23 rfl ?_
        refine w_bipush F dX8_empties_24 rfl ?_
        first | refine w_iastN F (aM6 _) (by omega) (by decide) rfl rfl (by first | assumption | exact inR0 | exact (hR _ _ _).1 | (constructor <;> omega)) (by omega) dX8_empties_26 ?_ | refine w_iast F (aM6 _) (by omega) (by decide) rfl rfl (by first | assumption | exact inR0 | exact (hR _ _ _).1 | (constructor <;> omega)) (by omega) (by omega) dX8_empties_26 ?_
        refine w_iinc F dX8_empties_27 rfl (by decide) rfl (lv' := [(0, _), (1, _)]) rfl ?_
        refine w_goto F (tgt := 13) dX8_empties_30 (by decide) ?_
        refine ih (j + 1) _ (by omega) (by omega) (by rw [gu_f (by decide)]; exact h3) (by rw [gu_f (by decide)]; exact h4) (fun i hi => ?_) (h6.up (by decide))
        by_cases e : i = j
        · subst e; exact gu_s _ _ _ _ _
        · rw [gu_n (by omega)]; exact h5 i (by omega)
  exact loop 25 0 _ (by omega) (by omega) (by rw [gu_f (by decide)]; exact gu_s _ _ _ _ _) (gu_s _ _ _ _ _) (fun i hi => by omega) ((Off0.rf.up (by decide)).up (by decide))
end M27
