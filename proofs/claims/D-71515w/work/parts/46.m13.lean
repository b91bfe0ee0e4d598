/-! the model: values kept; acts -/
abbrev VV : Type := Nat × (Nat → Nat → Int) × TT
theorem MV.cong {σ σ' : Nat → Nat → Int} {b : Nat} {T : Nat → Nat → Int} {t : TT} (h : MV σ b T t) (hb : b < 4096) (he : ∀ f i, PK2 24 f i → σ' f i = σ f i) : MV σ' b T t := by
  obtain ⟨h1, ⟨r, ns, h2, h3, h4⟩, h5⟩ := h
  have e6 : ∀ z, z < 24 → ∀ f, 6 ≤ f → f ≤ 10 → σ' f z = σ f z := fun z hz f a b => he f z (Or.inr (Or.inr (Or.inr (Or.inr ⟨a, b, hz⟩))))
  have e1 : ∀ z, z < 12 → ∀ f, 1 ≤ f → f ≤ 4 → σ' f z = σ f z := fun z hz f a b => he f z (Or.inr (Or.inr (Or.inr (Or.inl ⟨a, b, hz⟩))))
  refine ⟨by rw [he 0 0 (Or.inl ⟨rfl, rfl⟩)]; exact h1, ⟨r, ns, by rw [he 5 0 (Or.inr (Or.inl ⟨rfl, rfl⟩))]; exact h2, h3.cong (fun y hy => ?_) (fun j hj => e1 j (h3.jobs j hj) 2 (by omega) (by omega)), h4.cong (fun z hz => by rw [e6 z hz 6 (by omega) (by omega)])⟩, fun j hj f a c => by rw [e1 j (tb12 hb hj) f a c]; exact h5 j hj f a c⟩
  have := h3.all y hy
  exact ⟨e6 y this 6 (by omega) (by omega), e6 y this 7 (by omega) (by omega), e6 y this 8 (by omega) (by omega), e6 y this 9 (by omega) (by omega), e6 y this 10 (by omega) (by omega)⟩
theorem us_sn {A : Nat → Int} {σ : Nat → Nat → Int} (h : ∀ i, i < 171 → A i = sn σ i) {f i : Nat} (hp : PK2 24 f i) : us A f i = σ f i := by
  rcases hp with ⟨rfl, rfl⟩ | ⟨rfl, rfl⟩ | ⟨rfl, rfl⟩ | ⟨h1, h2, h3⟩ | ⟨h1, h2, h3⟩
  · exact h 0 (by omega)
  · exact h 1 (by omega)
  · exact h 2 (by omega)
  · rcases (show f = 1 ∨ f = 2 ∨ f = 3 ∨ f = 4 by omega) with rfl | rfl | rfl | rfl
    · exact (h (3 + i) (by omega)).trans (sn_1 σ h3)
    · exact (h (15 + i) (by omega)).trans (sn_2 σ h3)
    · exact (h (27 + i) (by omega)).trans (sn_3 σ h3)
    · exact (h (39 + i) (by omega)).trans (sn_4 σ h3)
  · rcases (show f = 6 ∨ f = 7 ∨ f = 8 ∨ f = 9 ∨ f = 10 by omega) with rfl | rfl | rfl | rfl | rfl
    · exact (h (51 + i) (by omega)).trans (sn_6 σ h3)
    · exact (h (75 + i) (by omega)).trans (sn_7 σ h3)
    · exact (h (99 + i) (by omega)).trans (sn_8 σ h3)
    · exact (h (123 + i) (by omega)).trans (sn_9 σ h3)
    · exact (h (147 + i) (by omega)).trans (sn_10 σ h3)
/-- a snapshot holds a value -/
def SnOk (Lb : Int) (A : Nat → Int) (w : VV) : Prop := MV (us A) w.1 w.2.1 w.2.2 ∧ (0 ≤ A 2 ∧ A 2 ≤ Lb) ∧ w.1 < 4096
theorem SnOk.cg {Lb : Int} {A B : Nat → Int} {w : VV} (h : SnOk Lb A w) (he : ∀ i, i < 171 → B i = A i) : SnOk Lb B w := by
  refine ⟨h.1.cong h.2.2 (fun f i hp => ?_), by rw [he 2 (by omega)]; exact h.2.1, h.2.2⟩
  unfold us
  rcases hp with ⟨rfl, rfl⟩ | ⟨rfl, rfl⟩ | ⟨rfl, rfl⟩ | ⟨h1, h2, h3⟩ | ⟨h1, h2, h3⟩
  · exact he 0 (by omega)
  · exact he 1 (by omega)
  · exact he 2 (by omega)
  · rcases (show f = 1 ∨ f = 2 ∨ f = 3 ∨ f = 4 by omega) with rfl | rfl | rfl | rfl <;> exact he _ (by omega)
  · rcases (show f = 6 ∨ f = 7 ∨ f = 8 ∨ f = 9 ∨ f = 10 by omega) with rfl | rfl | rfl | rfl | rfl <;> exact he _ (by omega)
theorem SnOk.mono {Lb Lc : Int} {A : Nat → Int} {w : VV} (h : SnOk Lb A w) (hl : Lb ≤ Lc) : SnOk Lc A w := ⟨h.1, ⟨h.2.1.1, Int.le_trans h.2.1.2 hl⟩, h.2.2⟩
/-- rows of snapshots -/
def SnL (Lb : Int) (A : Nat → Int) (L : List VV) : Prop := ∀ i w, L[i]? = some w → SnOk Lb (fun q => A (171 * i + q)) w
theorem SnL.mono {Lb Lc : Int} {A : Nat → Int} {L : List VV} (h : SnL Lb A L) (hl : Lb ≤ Lc) : SnL Lc A L := fun i w q => (h i w q).mono hl
/-- the whole model: value, what may be undone, what is kept -/
def MF (σ : Nat → Nat → Int) (Lb : Int) (v : VV) (vu vk : List VV) : Prop := MV σ v.1 v.2.1 v.2.2 ∧ (0 ≤ σ 11 0 ∧ σ 11 0 ≤ Lb) ∧ v.1 < 4096 ∧ σ 20 0 = (vu.length : Int) ∧ vu.length ≤ 8 ∧ SnL Lb (σ 19) vu ∧ σ 22 0 = (vk.length : Int) ∧ vk.length ≤ 2 ∧ SnL Lb (σ 21) vk
def undN (vu : List VV) (v : VV) : List VV := (if vu.length = 8 then vu.drop 1 else vu) ++ [v]
theorem sn_laid {γ g : GG} {f a : Nat} {Lb : Int} {v : VV} (h : GS γ g f a (fun i => i < 171)) (hv : MV (γ 0) v.1 v.2.1 v.2.2) (hl : 0 ≤ γ 0 11 0 ∧ γ 0 11 0 ≤ Lb) (hb : v.1 < 4096) : SnOk Lb (fun q => g 0 f (a + q)) v := by
  have h1 : ∀ i, i < 171 → g 0 f (a + i) = sn (γ 0) i := fun i hi => by
    have := h.1 (a + i) (by omega) (by rw [show a + i - a = i by omega]; exact hi)
    rw [show a + i - a = i by omega] at this
    exact this
  exact ⟨hv.cong hb (fun f i hp => us_sn h1 hp), by show 0 ≤ g 0 f (a + 2) ∧ g 0 f (a + 2) ≤ Lb; rw [h1 2 (by omega)]; exact hl, hb⟩
section M13
variable {l : Launch} {E : EE}
theorem ct_notes (hE : EOk E) (hm : 438 ≤ E.nk) (γ : GG) {Lb : Int} {v : VV} {vu vk : List VV} (hF : MF (γ 0) Lb v vu vk) : Ct l yX8_notes cX8_notes 2 none E 200 20000 [.ref (E.ad 414)] γ (fun r g => r = none ∧ MF (g 0) Lb v (undN vu v) vk ∧ Off0 [19, 20] γ g) 0 0 := by
  refine Ct.of hE (by decide) (Nat.le_of_ble_eq_true rfl) (fun Φ hLn hΦ F hfr hlo => ?_)
  subst hLn; subst hΦ
  have h414 := F.ok.1.2.2
  have hrc := F.rc
  have hrs := F.rs
  show Wg Φ 2 _ 0 0 0 [(0, _)] []
  refine w_rng (fun hR => ?_)
  obtain ⟨f1, f2, f3, f4, f5, f6, f7, f8, f9⟩ := hF
  have J : ∀ (g : GG) (wu : List VV), Off0 [19, 20] γ g → g 0 20 0 = (wu.length : Int) → wu.length ≤ 7 → SnL Lb (g 0 19) wu → undN vu v = wu ++ [v] → Wg Φ 2 g 0 0 50 [(0, .ref (Φ.E.ad 414))] [] := by
    intro g wu o1 h1 h2 h3 h4
    refine w_aload_n F dX8_notes_50 rfl rfl ?_
    refine w_aload_n F dX8_notes_51 rfl rfl ?_
    refine w_get F (by omega) cell_mdO rfl in_X8 19 (by decide) (Or.inl q891) rfl dX8_notes_52 ?_
    refine w_sipush F dX8_notes_55 rfl ?_
    refine w_aload_n F dX8_notes_58 rfl rfl ?_
    refine w_getF F (fM20 _) (by omega) rfl in_X8 (by decide) (Or.inl q892) dX8_notes_59 ?_
    refine w_top h1 ?_
    refine w_imul F dX8_notes_62 ?_
    refine w_top (z' := ((171 * wu.length : Nat) : Int)) (by omega) ?_
    refine w_callV F (As := [_, _]) (ct_lays hE hm g (aM19 _) (by omega) (Or.inl rfl) (by decide) (a := 171 * wu.length) (by omega)) (lw_V q1038 q1040 qs57 q88 q1041) md_X8_lays (by omega) cell_mdO rfl rfl rfl rfl (Nat.le_of_ble_eq_true rfl) dX8_notes_63 ⟨by omega, by omega⟩ ⟨by omega, by omega⟩ ?_
    rintro _ g2 ⟨rfl, hg⟩
    refine w_aload_n F dX8_notes_66 rfl rfl ?_
    refine w_dup F dX8_notes_67 rfl ?_
    refine w_getF F (fM20 _) (by omega) rfl in_X8 (by decide) (Or.inl q892) dX8_notes_68 ?_
    refine w_top (z' := (wu.length : Int)) (by rw [hg.2.2.f 20 rfl]; exact h1) ?_
    refine w_iconst F dX8_notes_71 ?_
    refine w_iadd F dX8_notes_72 ?_
    refine w_putF F (fM20 _) (by omega) rfl in_X8 tyX8 tyX8_ok nmX8 (by decide) (Or.inl q892) rfl rfl rfl (by first | assumption | exact inR0 | exact (hR _ _ _).1 | (constructor <;> omega)) (fun h => by cases h) (fun h => by cases h) dX8_notes_73 ?_
    have o2 : Off0 [19, 20] γ g2 := o1.tr (hg.2.2.mono (by decide))
    have o3 : Off0 [19, 20] γ (gu g2 0 20 0 ((wu.length : Int) + 1)) := o2.up (by decide)
    have i1 : MV (g 0) v.1 v.2.1 v.2.2 := f1.cong f3 (fun f i hp => by rw [o1 0 f (by unfold PK2 at hp; simp; omega)])
    have hsn := sn_laid (Lb := Lb) hg i1 (by rw [o1.f 11 rfl]; exact f2) f3
    have hres : MF ((gu g2 0 20 0 ((wu.length : Int) + 1)) 0) Lb v (undN vu v) vk := by
      refine ⟨f1.cong f3 (fun f i hp => by rw [o3 0 f (by unfold PK2 at hp; simp; omega)]), by rw [o3.f 11 rfl]; exact f2, f3, by rw [gu_s, h4]; simp, by rw [h4]; simp; omega, ?_, by rw [o3.f 22 rfl]; exact f7, f8, by rw [o3.f 21 rfl]; exact f9⟩
      rw [gu_f (by decide), h4]
      intro i w hw
      by_cases e : i < wu.length
      · rw [List.getElem?_append_left e] at hw
        refine (h3 i w hw).cg (fun q hq => hg.2.1 _ (fun z => ?_))
        omega
      · have e2 := (List.getElem?_eq_some_iff.mp hw).1
        simp at e2
        have e3 : i = wu.length := by omega
        subst e3
        simp at hw
        rw [← hw]
        exact hsn
    exact w_vret F (by omega) (by omega) (⟨rfl, hres, o3⟩) dX8_notes_76
  refine w_aload_n F dX8_notes_0 rfl rfl ?_
  refine w_getF F (fM20 _) (by omega) rfl in_X8 (by decide) (Or.inl q892) dX8_notes_1 ?_
  refine w_top f4 ?_
  refine w_bipush F dX8_notes_4 rfl ?_
  refine w_icmp_ne F (tgt := 50) dX8_notes_6 (by decide) (by first | assumption | exact inR0 | exact (hR _ _ _).1 | (constructor <;> omega)) (by first | assumption | exact inR0 | exact (hR _ _ _).1 | (constructor <;> omega)) (fun h => ?_) (fun h => ?_)
  · refine J γ vu Off0.rf f4 (by omega) f6 ?_
    unfold undN
    rw [if_neg (by omega)]
  · have h8 : vu.length = 8 := by omega
    refine w_iconst F dX8_notes_9 ?_
    refine w_istore_n F dX8_notes_10 (by decide) rfl (lv' := [(0, _), (1, _)]) rfl ?_
    have loop : ∀ (m k : Nat) (g : GG), k ≤ 1197 → 1197 - k < m → (∀ i, g 0 19 i = if i < k then γ 0 19 (i + 171) else γ 0 19 i) → Off0 [19] γ g → Wg Φ 2 g 0 0 11 [(0, .ref (Φ.E.ad 414)), (1, .int (iI (k : Int)))] [] := by
      intro m
      induction m with
      | zero => intro k g h1 h2; omega
      | succ m ih =>
        intro k g h1 h2 h3 h4
        refine w_rng (fun hR => ?_)
        refine w_iload_n F dX8_notes_11 rfl ?_
        refine w_sipush F dX8_notes_12 rfl ?_
        refine w_icmp_ge F (tgt := 40) dX8_notes_15 (by decide) (by first | assumption | exact inR0 | exact (hR _ _ _).1 | (constructor <;> omega)) (by first | assumption | exact inR0 | exact (hR _ _ _).1 | (constructor <;> omega)) (fun h9 => ?_) (fun h9 => ?_)
        · refine w_aload_n F dX8_notes_40 rfl rfl ?_
          refine w_dup F dX8_notes_41 rfl ?_
          refine w_getF F (fM20 _) (by omega) rfl in_X8 (by decide) (Or.inl q892) dX8_notes_42 ?_
          refine w_top (z' := 8) (by rw [h4.f 20 rfl, f4, h8]; rfl) ?_
          refine w_iconst F dX8_notes_45 ?_
          refine w_isub F dX8_notes_46 ?_
          refine w_putF F (fM20 _) (by omega) rfl in_X8 tyX8 tyX8_ok nmX8 (by decide) (Or.inl q892) rfl rfl rfl (by first | assumption | exact inR0 | exact (hR _ _ _).1 | (constructor <;> omega)) (fun h => by cases h) (fun h => by cases h) dX8_notes_47 ?_
          refine w_keep [0] (lv' := [(0, _)]) rfl ?_
          have hk : k = 1197 := by omega
          refine J _ (vu.drop 1) (((h4.mono (by decide)).up (by decide))) (by rw [gu_s]; simp [h8]) (by simp; omega) ?_ (by unfold undN; rw [if_pos h8])
          rw [gu_f (by decide)]
          intro i w hw
          rw [List.getElem?_drop] at hw
          have hl := (List.getElem?_eq_some_iff.mp hw).1
          refine (f6 (1 + i) w hw).cg (fun q hq => ?_)
          rw [h3, if_pos (by omega)]
          congr 1
          omega
        · refine w_aload_n F dX8_notes_18 rfl rfl ?_
          refine w_get F (by omega) cell_mdO rfl in_X8 19 (by decide) (Or.inl q891) rfl dX8_notes_19 ?_
          refine w_iload_n F dX8_notes_22 rfl ?_
          refine w_aload_n F dX8_notes_23 rfl rfl ?_
          refine w_get F (by omega) cell_mdO rfl in_X8 19 (by decide) (Or.inl q891) rfl dX8_notes_24 ?_
          refine w_iload_n F dX8_notes_27 rfl ?_
          refine w_sipush F dX8_notes_28 rfl ?_
          refine w_iadd F dX8_notes_31 ?_
          refine w_top (z' := ((k + 171 : Nat) : Int)) rfl ?_
          first | refine w_ialdN F (aM19 _) (by omega) (by decide) (by omega) dX8_notes_32 ?_ | refine w_iald F (aM19 _) (by omega) (by decide) (by omega) (by omega) dX8_notes_32 ?_
          refine w_top (z' := γ 0 19 (k + 171)) (by rw [h3, if_neg (by omega)]) ?_
          have hb := (hR 0 19 (k + 171)).1
          rw [h3, if_neg (by omega)] at hb
          first | refine w_iastN F (aM19 _) (by omega) (by decide) rfl rfl (by first | assumption | exact inR0 | exact (hR _ _ _).1 | (constructor <;> omega)) (by omega) dX8_notes_33 ?_ | refine w_iast F (aM19 _) (by omega) (by decide) rfl rfl (by first | assumption | exact inR0 | exact (hR _ _ _).1 | (constructor <;> omega)) (by omega) (by omega) dX8_notes_33 ?_
          refine w_iinc F dX8_notes_34 rfl (by decide) rfl (lv' := [(0, _), (1, _)]) rfl ?_
          refine w_goto F (tgt := 11) dX8_notes_37 (by decide) ?_
          refine ih (k + 1) _ (by omega) (by omega) (fun i => ?_) (h4.up (by decide))
          by_cases e : i = k
          · subst e
            rw [gu_s, if_pos (by omega)]
          · rw [gu_n (by omega), h3 i]
            by_cases e2 : i < k
            · rw [if_pos e2, if_pos (by omega)]
            · rw [if_neg e2, if_neg (by omega)]
    exact loop 1198 0 γ (by omega) (by omega) (fun i => by simp) Off0.rf
end M13
