/-! DeadlineTree: the text; what is kept -/
/-- nothing has changed but the DeadlineTree's own rows fs -/
def OffD (fs : List Nat) (γ g : GG) : Prop := ∀ o f, ¬ (o = 1 ∧ f ∈ fs) → g o f = γ o f
theorem OffD.rf {fs : List Nat} {γ : GG} : OffD fs γ γ := fun _ _ _ => rfl
theorem OffD.tr {fs : List Nat} {a b c : GG} (h1 : OffD fs a b) (h2 : OffD fs b c) : OffD fs a c := fun o f h => (h2 o f h).trans (h1 o f h)
theorem OffD.mono {fs gs : List Nat} {a b : GG} (h : OffD fs a b) (hs : ∀ f ∈ fs, f ∈ gs) : OffD gs a b := fun o f q => h o f (fun z => q ⟨z.1, hs f z.2⟩)
theorem OffD.up {fs : List Nat} {γ g : GG} (h : OffD fs γ g) {f i : Nat} {z : Int} (hf : f ∈ fs) : OffD fs γ (gu g 1 f i z) := fun o q hq => by
  rw [← h o q hq]
  by_cases e : o = 1
  · subst e
    exact gu_f (fun e2 => hq ⟨rfl, by rw [e2]; exact hf⟩)
  · exact congrFun (gu_o e) q
theorem OffD.f {fs : List Nat} {γ g : GG} (h : OffD fs γ g) (q : Nat) (hq : fs.contains q = false) : g 1 q = γ 1 q := h 1 q (fun e => by have := List.contains_iff_mem.mpr e.2; rw [hq] at this; cases this)
theorem OffD.o {fs : List Nat} {γ g : GG} (h : OffD fs γ g) (o : Nat) (ho : o ≠ 1) : g o = γ o := by
  funext f
  exact h o f (fun e => ho e.1)
def TXD (σ : Nat → Nat → Int) (cs : List Int) : Prop := σ 8 0 = (cs.length : Int) ∧ cs.length ≤ 200 ∧ HL (σ 9) cs ∧ ∀ c ∈ cs, 32 ≤ c ∧ c ≤ 126
theorem TXD.ch {σ : Nat → Nat → Int} {cs : List Int} (h : TXD σ cs) (p : Nat) : 0 ≤ chT cs p ∧ chT cs p ≤ 126 := by
  unfold chT
  rw [List.getD_eq_getElem?_getD]
  cases e : cs[p]? with
  | none => simp
  | some c => have := h.2.2.2 c (List.mem_of_getElem? e); simp; omega
/-- the whole component: value, what may be undone, what is kept -/
def DF (γ : GG) (v : VV) (vu vk : List VV) : Prop := SV (γ 3) v ∧ v.1 < 4096 ∧ γ 1 7 0 = (vu.length : Int) ∧ vu.length ≤ 8 ∧ (∀ i w, vu[i]? = some w → SV (γ (2 + (γ 1 6 i).toNat)) w ∧ w.1 < 4096) ∧ γ 1 5 0 = (vk.length : Int) ∧ vk.length ≤ 2 ∧ (∀ i w, vk[i]? = some w → SV (γ (5 + i)) w ∧ w.1 < 4096) ∧ (∀ i, i < 8 → 5 ≤ γ 1 6 i ∧ γ 1 6 i < 13) ∧ ∀ i i', i < 8 → i' < 8 → γ 1 6 i = γ 1 6 i' → i = i'
theorem DF.off {γ g : GG} {v : VV} {vu vk : List VV} {fs : List Nat} (h : DF γ v vu vk) (o : OffD fs γ g) (hf : (fs.contains 5 || fs.contains 6 || fs.contains 7) = false) : DF g v vu vk := by
  simp only [Bool.or_eq_false_iff] at hf
  obtain ⟨h1, h2, h3, h4, h5, h6, h7, h8, h9, h10⟩ := h
  have e6 := o.f 6 hf.1.2
  refine ⟨by rw [o.o 3 (by decide)]; exact h1, h2, by rw [o.f 7 hf.2]; exact h3, h4, fun i w hw => ?_, by rw [o.f 5 hf.1.1]; exact h6, h7, fun i w hw => by rw [o.o (5 + i) (by omega)]; exact h8 i w hw, by rw [e6]; exact h9, by rw [e6]; exact h10⟩
  rw [e6, o.o _ (by omega)]
  exact h5 i w hw
section D2
variable {l : Launch} {E : EE}
theorem ct_writeD (hE : EOk E) (γ : GG) {cs : List Int} (hT : TXD (γ 1) cs) {c : Int} (hc : InR c) : Ct l yX0_write cX0_write 2 (some .int) E 200 20000 [.ref (E.ad 0), .int (iI c)] γ (fun r g => OffD [8, 9] γ g ∧ ((¬ (32 ≤ c ∧ c ≤ 126) ∧ r = some (.int (iI (-1))) ∧ TXD (g 1) cs) ∨ ((32 ≤ c ∧ c ≤ 126) ∧ cs.length = 200 ∧ r = some (.int (iI (-3))) ∧ TXD (g 1) cs) ∨ ((32 ≤ c ∧ c ≤ 126) ∧ cs.length ≠ 200 ∧ r = some (.int (iI ((cs.length : Int) + 1))) ∧ TXD (g 1) (cs ++ [c])))) 0 0 := by
  refine Ct.of hE (by decide) (Nat.le_of_ble_eq_true rfl) (fun Φ hLn hΦ F hfr hlo => ?_)
  subst hLn; subst hΦ
  have h414 := F.ok.1.2.2
  have hrc := F.rc
  have hrs := F.rs
  show Wg Φ 2 _ 0 0 0 [(0, _), (1, _)] []
  refine w_rng (fun hR => ?_)
  obtain ⟨t1, t2, t3, t4⟩ := id hT
  refine w_iload_n F dX0_write_0 rfl ?_
  refine w_i2l F dX0_write_1 (by first | assumption | exact inR0 | exact (hR _ _ _).1 | (constructor <;> omega)) ?_
  refine w_ldc2 F q277 dX0_write_2 ?_
  refine w_topL (z' := 32) rfl ?_
  refine w_ldc2 F q278 dX0_write_5 ?_
  refine w_topL (z' := 126) rfl ?_
  refine w_callS F (As := [_, _, _]) (ct_isIn hE γ hc (by decide) (by decide)) (lw_S q279 q280 q70 q281) md_X0_isIn rfl rfl (Nat.le_of_ble_eq_true rfl) dX0_write_8 ⟨by omega, by omega⟩ ⟨by omega, by omega⟩ ?_
  rintro _ _ ⟨rfl, rfl⟩
  refine w_if_ne F (tgt := 16) dX0_write_11 (by decide) (b2i_R _) (fun h => ?_) (fun h => ?_)
  · rw [b2i_n0] at h
    refine w_aload_n F dX0_write_16 rfl rfl ?_
    refine w_getF F (fD8 _) (by omega) rfl in_X0 (by decide) (Or.inl q548) dX0_write_17 ?_
    refine w_top t1 ?_
    refine w_sipush F dX0_write_20 rfl ?_
    refine w_icmp_ne F (tgt := 29) dX0_write_23 (by decide) (by first | assumption | exact inR0 | exact (hR _ _ _).1 | (constructor <;> omega)) (by first | assumption | exact inR0 | exact (hR _ _ _).1 | (constructor <;> omega)) (fun h2 => ?_) (fun h2 => ?_)
    · refine w_aload_n F dX0_write_29 rfl rfl ?_
      refine w_get F (by omega) rfl rfl in_X0 9 (by decide) (Or.inl q549) rfl dX0_write_30 ?_
      refine w_aload_n F dX0_write_33 rfl rfl ?_
      refine w_getF F (fD8 _) (by omega) rfl in_X0 (by decide) (Or.inl q548) dX0_write_34 ?_
      refine w_top t1 ?_
      refine w_iload_n F dX0_write_37 rfl ?_
      refine w_i2b F dX0_write_38 (by omega) (by omega) ?_
      first | refine w_bastN F (aD9 _) (by omega) (by decide) (isP_n rfl) (by constructor <;> omega) (by omega) dX0_write_39 ?_ | refine w_bast F (aD9 _) (by omega) (by decide) (isP_n rfl) (by constructor <;> omega) (by omega) (by omega) dX0_write_39 ?_
      refine w_aload_n F dX0_write_40 rfl rfl ?_
      refine w_dup F dX0_write_41 rfl ?_
      refine w_getF F (fD8 _) (by omega) rfl in_X0 (by decide) (Or.inl q548) dX0_write_42 ?_
      refine w_top (z' := (cs.length : Int)) (by rw [gu_f (by decide)]; exact t1) ?_
      refine w_iconst F dX0_write_45 ?_
      refine w_iadd F dX0_write_46 ?_
      refine w_putF F (fD8 _) (by omega) rfl in_X0 tyX0 tyX0_ok nmX0 (by decide) (Or.inl q548) rfl rfl rfl (by first | assumption | exact inR0 | exact (hR _ _ _).1 | (constructor <;> omega)) (fun h => by cases h) (fun h => by cases h) dX0_write_47 ?_
      refine w_aload_n F dX0_write_50 rfl rfl ?_
      refine w_getF F (fD8 _) (by omega) rfl in_X0 (by decide) (Or.inl q548) dX0_write_51 ?_
      refine w_top (z' := (cs.length : Int) + 1) (gu_s _ _ _ _ _) ?_
      exact w_iret F (by omega) (by omega) (⟨(OffD.rf.up (by decide)).up (by decide), Or.inr (Or.inr ⟨h, by omega, rfl, by rw [gu_s]; simp, by simp; omega, (t3.sn rfl).ot (by decide), fun z hz => by rcases List.mem_append.mp hz with q | q; exact t4 z q; simp at q; rw [q]; exact h⟩)⟩) dX0_write_54
    · refine w_bipush F dX0_write_26 rfl ?_
      exact w_iret F (by omega) (by omega) (⟨OffD.rf, Or.inr (Or.inl ⟨h, by omega, rfl, hT⟩)⟩) dX0_write_28
  · rw [b2i_0] at h
    refine w_iconst F dX0_write_14 ?_
    exact w_iret F (by omega) (by omega) (⟨OffD.rf, Or.inl ⟨h, rfl, hT⟩⟩) dX0_write_15
theorem ct_wipeD (hE : EOk E) (γ : GG) {cs : List Int} (hT : TXD (γ 1) cs) : Ct l yX0_wipe cX0_wipe 2 (some .int) E 200 20000 [.ref (E.ad 0)] γ (fun r g => OffD [8, 9] γ g ∧ r = some (.int (iI (cs.length : Int))) ∧ TXD (g 1) []) 0 0 := by
  refine Ct.of hE (by decide) (Nat.le_of_ble_eq_true rfl) (fun Φ hLn hΦ F hfr hlo => ?_)
  subst hLn; subst hΦ
  have h414 := F.ok.1.2.2
  have hrc := F.rc
  have hrs := F.rs
  show Wg Φ 2 _ 0 0 0 [(0, _)] []
  refine w_rng (fun hR => ?_)
  refine w_aload_n F dX0_wipe_0 rfl rfl ?_
  refine w_getF F (fD8 _) (by omega) rfl in_X0 (by decide) (Or.inl q548) dX0_wipe_1 ?_
  refine w_top hT.1 ?_
  refine w_istore_n F dX0_wipe_4 (by decide) rfl (lv' := [(0, _), (1, _)]) rfl ?_
  refine w_aload_n F dX0_wipe_5 rfl rfl ?_
  refine w_iconst F dX0_wipe_6 ?_
  refine w_putF F (fD8 _) (by omega) rfl in_X0 tyX0 tyX0_ok nmX0 (by decide) (Or.inl q548) rfl rfl rfl (by first | assumption | exact inR0 | exact (hR _ _ _).1 | (constructor <;> omega)) (fun h => by cases h) (fun h => by cases h) dX0_wipe_7 ?_
  refine w_iload_n F dX0_wipe_10 rfl ?_
  exact w_iret F (by omega) (by omega) (⟨OffD.rf.up (by decide), rfl, gu_s _ _ _ _ _, by simp, HL.nil _, by simp⟩) dX0_wipe_11
theorem ct_letterAt (hE : EOk E) (γ : GG) {cs : List Int} (hT : TXD (γ 1) cs) {p : Nat} (hp : p ≤ 1000) : Ct l yX0_letterAt cX0_letterAt 2 (some .int) E 100 16000 [.ref (E.ad 0), .int (iI (p : Int))] γ (pI (chT cs p) γ) 0 0 := by
  refine Ct.of hE (by decide) (Nat.le_of_ble_eq_true rfl) (fun Φ hLn hΦ F hfr hlo => ?_)
  subst hLn; subst hΦ
  have h414 := F.ok.1.2.2
  have hrc := F.rc
  have hrs := F.rs
  show Wg Φ 2 _ 0 0 0 [(0, _), (1, _)] []
  refine w_rng (fun hR => ?_)
  obtain ⟨t1, t2, t3, t4⟩ := id hT
  refine w_iload_n F dX0_letterAt_0 rfl ?_
  refine w_aload_n F dX0_letterAt_1 rfl rfl ?_
  refine w_getF F (fD8 _) (by omega) rfl in_X0 (by decide) (Or.inl q548) dX0_letterAt_2 ?_
  refine w_top t1 ?_
  refine w_icmp_ge F (tgt := 17) dX0_letterAt_5 (by decide) (by first | assumption | exact inR0 | exact (hR _ _ _).1 | (constructor <;> omega)) (by first | assumption | exact inR0 | exact (hR _ _ _).1 | (constructor <;> omega)) (fun h => ?_) (fun h => ?_)
  · refine w_iconst F dX0_letterAt_17 ?_
    exact w_iret F (by omega) (by omega) (⟨by unfold chT; rw [List.getD_eq_getElem?_getD, List.getElem?_eq_none (by omega)]; rfl, rfl⟩) dX0_letterAt_18
  · refine w_aload_n F dX0_letterAt_8 rfl rfl ?_
    refine w_get F (by omega) rfl rfl in_X0 9 (by decide) (Or.inl q549) rfl dX0_letterAt_9 ?_
    refine w_iload_n F dX0_letterAt_12 rfl ?_
    first | refine w_baldN F (aD9 _) (by omega) (by decide) (by omega) dX0_letterAt_13 ?_ | refine w_bald F (aD9 _) (by omega) (by decide) (by omega) (by omega) dX0_letterAt_13 ?_
    refine w_top (z' := chT cs p) (t3 p _ (by unfold chT; rw [List.getD_eq_getElem?_getD, List.getElem?_eq_getElem (by omega)]; rfl)) ?_
    refine w_goto F (tgt := 18) dX0_letterAt_14 (by decide) ?_
    exact w_iret F (by omega) (by omega) (⟨rfl, rfl⟩) dX0_letterAt_18
theorem ct_isFigureD (hE : EOk E) (γ : GG) {cs : List Int} (hT : TXD (γ 1) cs) {p : Nat} (hp : γ 1 10 0 = (p : Int)) (hp2 : p ≤ 1000) : Ct l yX0_isFigure cX0_isFigure 1 (some .boolean) E 200 20000 [.ref (E.ad 0)] γ (pI (b2i (48 ≤ chT cs p ∧ chT cs p ≤ 57)) γ) 0 0 := by
  refine Ct.of hE (by decide) (Nat.le_of_ble_eq_true rfl) (fun Φ hLn hΦ F hfr hlo => ?_)
  subst hLn; subst hΦ
  have h414 := F.ok.1.2.2
  have hrc := F.rc
  have hrs := F.rs
  show Wg Φ 1 _ 0 0 0 [(0, _)] []
  refine w_rng (fun hR => ?_)
  have hc := hT.ch p
  refine w_aload_n F dX0_isFigure_0 rfl rfl ?_
  refine w_aload_n F dX0_isFigure_1 rfl rfl ?_
  refine w_getF F (fD10 _) (by omega) rfl in_X0 (by decide) (Or.inl q550) dX0_isFigure_2 ?_
  refine w_top hp ?_
  refine w_callV F (As := [_]) (ct_letterAt hE γ hT hp2) (lw_V q299 q301 qs2 q70 q302) md_X0_letterAt (by omega) rfl rfl rfl rfl rfl (Nat.le_of_ble_eq_true rfl) dX0_isFigure_5 ⟨by omega, by omega⟩ ⟨by omega, by omega⟩ ?_
  rintro _ _ ⟨rfl, rfl⟩
  refine w_i2l F dX0_isFigure_8 (by first | assumption | exact inR0 | exact (hR _ _ _).1 | (constructor <;> omega)) ?_
  refine w_ldc2 F q393 dX0_isFigure_9 ?_
  refine w_topL (z' := 48) rfl ?_
  refine w_ldc2 F q394 dX0_isFigure_12 ?_
  refine w_topL (z' := 57) rfl ?_
  refine w_callS F (As := [_, _, _]) (ct_isIn hE γ (a := chT cs p) (by omega) (by decide) (by decide)) (lw_S q279 q280 q70 q281) md_X0_isIn rfl rfl (Nat.le_of_ble_eq_true rfl) dX0_isFigure_15 ⟨by omega, by omega⟩ ⟨by omega, by omega⟩ ?_
  rintro _ _ ⟨rfl, rfl⟩
  have hz : b2i (48 ≤ chT cs p ∧ chT cs p ≤ 57) = 0 ∨ b2i (48 ≤ chT cs p ∧ chT cs p ≤ 57) = 1 := by unfold b2i; split <;> simp
  exact w_zret F (by first | exact Or.inl rfl | exact Or.inr rfl | assumption | omega) (by omega) (by omega) (⟨rfl, rfl⟩) dX0_isFigure_18
end D2
