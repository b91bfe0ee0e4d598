/-! the model: number -/
abbrev fig (cs : List Int) (p : Nat) : Prop := 48 ≤ chT cs p ∧ chT cs p ≤ 57
/-- where a number that begins at p ends, and its value -/
def nmE (cs : List Int) (p : Nat) : Nat × Int := if fig cs (p + 1) then (p + 2, 10 * (chT cs p - 48) + chT cs (p + 1) - 48) else (p + 1, chT cs p - 48)
abbrev nmOk (cs : List Int) (p : Nat) (lo hi en : Int) : Prop := fig cs p ∧ chT cs (nmE cs p).1 = en ∧ lo ≤ (nmE cs p).2 ∧ (nmE cs p).2 ≤ hi
theorem chT_lt {cs : List Int} {p : Nat} (h : 0 < chT cs p) : p < cs.length := by
  by_cases e : p < cs.length
  · exact e
  · unfold chT at h
    rw [List.getD_eq_getElem?_getD, List.getElem?_eq_none (by omega)] at h
    simp at h
theorem TXT.off {γ g : GG} {cs : List Int} {fs : List Nat} (h : TXT (γ 0) cs) (o : Off0 fs γ g) (hf : (fs.contains 27 || fs.contains 28) = false) : TXT (g 0) cs := by
  simp only [Bool.or_eq_false_iff] at hf
  unfold TXT
  rw [o.f 27 hf.1, o.f 28 hf.2]
  exact h
section M28
variable {l : Launch} {E : EE}
theorem ct_number (hE : EOk E) (hm : 438 ≤ E.nk) (γ : GG) {cs : List Int} (hT : TXT (γ 0) cs) {p : Nat} (hp : γ 0 29 0 = (p : Int)) (hp2 : p ≤ 200) {lo hi en : Int} (hlw : InR lo) (hhi : InR hi) (hen : InR en) (he0 : 0 < en) : Ct l yX8_number cX8_number 5 (some .boolean) E 300 24000 [.ref (E.ad 414), .int (iI lo), .int (iI hi), .int (iI en)] γ (fun r g => Off0 [29, 31] γ g ∧ ((nmOk cs p lo hi en ∧ r = some (.int (iI 1)) ∧ g 0 29 0 = ((nmE cs p).1 : Int) + 1 ∧ g 0 31 0 = (nmE cs p).2) ∨ (¬ nmOk cs p lo hi en ∧ r = some (.int (iI 0)) ∧ ∃ q : Nat, q ≤ 200 ∧ g 0 29 0 = (q : Int)))) 0 0 := by
  refine Ct.of hE (by decide) (Nat.le_of_ble_eq_true rfl) (fun Φ hLn hΦ F hfr hlo => ?_)
  subst hLn; subst hΦ
  have h414 := F.ok.1.2.2
  have hrc := F.rc
  have hrs := F.rs
  show Wg Φ 5 _ 0 0 0 [(0, _), (1, _), (2, _), (3, _)] []
  refine w_rng (fun hR => ?_)
  have hlen := hT.2.1
  refine w_aload_n F dX8_number_0 rfl rfl ?_
  refine w_callV F (As := []) (ct_isFigure hE hm γ hT hp hp2) (lw_V q1164 q1166 qs68 q88 q1167) md_X8_isFigure (by omega) cell_mdO rfl rfl rfl rfl (Nat.le_of_ble_eq_true rfl) dX8_number_1 ⟨by omega, by omega⟩ ⟨by omega, by omega⟩ ?_
  rintro _ _ ⟨rfl, rfl⟩
  refine w_if_ne F (tgt := 9) dX8_number_4 (by decide) (b2i_R _) (fun h => ?_) (fun h => ?_)
  · rw [b2i_n0] at h
    have hp3 := chT_lt (cs := cs) (p := p) (by omega)
    have hc2 := hT.ch (p + 1)
    refine w_aload_n F dX8_number_9 rfl rfl ?_
    refine w_callV F (As := []) (ct_here hE hm γ hT hp hp2) (lw_V q1156 q1158 qs66 q88 q1159) md_X8_here (by omega) cell_mdO rfl rfl rfl rfl (Nat.le_of_ble_eq_true rfl) dX8_number_10 ⟨by omega, by omega⟩ ⟨by omega, by omega⟩ ?_
    rintro _ _ ⟨rfl, rfl⟩
    refine w_bipush F dX8_number_13 rfl ?_
    refine w_isub F dX8_number_15 ?_
    refine w_istore F dX8_number_16 (by decide) rfl (lv' := [(0, _), (1, _), (2, _), (3, _), (4, _)]) rfl ?_
    refine w_aload_n F dX8_number_18 rfl rfl ?_
    refine w_dup F dX8_number_19 rfl ?_
    refine w_getF F (fM29 _) (by omega) rfl in_X8 (by decide) (Or.inl q901) dX8_number_20 ?_
    refine w_top hp ?_
    refine w_iconst F dX8_number_23 ?_
    refine w_iadd F dX8_number_24 ?_
    refine w_top (z' := ((p + 1 : Nat) : Int)) (by omega) ?_
    refine w_putF F (fM29 _) (by omega) rfl in_X8 tyX8 tyX8_ok nmX8 (by decide) (Or.inl q901) rfl rfl rfl (by first | assumption | exact inR0 | exact (hR _ _ _).1 | (constructor <;> omega)) (fun h => by cases h) (fun h => by cases h) dX8_number_25 ?_
    obtain ⟨g, hg⟩ : ∃ g, g = gu γ 0 29 0 ((p + 1 : Nat) : Int) := ⟨_, rfl⟩
    have og : Off0 [29, 31] γ g := by rw [hg]; exact Off0.rf.up (by decide)
    have hpg : g 0 29 0 = ((p + 1 : Nat) : Int) := by rw [hg]; exact gu_s _ _ _ _ _
    have fin : ∀ (q : Nat) (z : Int) (g2 : GG), q ≤ 200 → Off0 [29, 31] γ g2 → g2 0 29 0 = (q : Int) → nmE cs p = (q, z) → (-1000 ≤ z ∧ z ≤ 1000) → Wg Φ 5 g2 0 0 60 [(0, .ref (Φ.E.ad 414)), (1, .int (iI lo)), (2, .int (iI hi)), (3, .int (iI en)), (4, .int (iI z))] [] := by
      intro q z g2 a1 a2 a3 a4 a5
      have o3 : Off0 [29, 31] γ (gu g2 0 31 0 z) := a2.up (by decide)
      have hp3 : gu g2 0 31 0 z 0 29 0 = (q : Int) := by rw [gu_f (by decide)]; exact a3
      have hcq := hT.ch q
      refine w_aload_n F dX8_number_60 rfl rfl ?_
      refine w_iload F dX8_number_61 rfl ?_
      refine w_putF F (fM31 _) (by omega) rfl in_X8 tyX8 tyX8_ok nmX8 (by decide) (Or.inl q903) rfl rfl rfl (by first | assumption | exact inR0 | exact (hR _ _ _).1 | (constructor <;> omega)) (fun h => by cases h) (fun h => by cases h) dX8_number_63 ?_
      refine w_aload_n F dX8_number_66 rfl rfl ?_
      refine w_callV F (As := []) (ct_here hE hm _ (hT.off o3 rfl) hp3 a1) (lw_V q1156 q1158 qs66 q88 q1159) md_X8_here (by omega) cell_mdO rfl rfl rfl rfl (Nat.le_of_ble_eq_true rfl) dX8_number_67 ⟨by omega, by omega⟩ ⟨by omega, by omega⟩ ?_
      rintro _ _ ⟨rfl, rfl⟩
      refine w_iload_n F dX8_number_70 rfl ?_
      refine w_icmp_ne F (tgt := 84) dX8_number_71 (by decide) (by first | assumption | exact inR0 | exact (hR _ _ _).1 | (constructor <;> omega)) (by first | assumption | exact inR0 | exact (hR _ _ _).1 | (constructor <;> omega)) (fun h4 => ?_) (fun h4 => ?_)
      · refine w_iconst F dX8_number_84 ?_
        exact w_zret F (by first | exact Or.inl rfl | exact Or.inr rfl | assumption | omega) (by omega) (by omega) (⟨o3, Or.inr ⟨fun w => h4 (by have := w.2.1; rw [a4] at this; exact this), rfl, q, a1, hp3⟩⟩) dX8_number_85
      · refine w_iload F dX8_number_74 rfl ?_
        refine w_iload_n F dX8_number_76 rfl ?_
        refine w_iload_n F dX8_number_77 rfl ?_
        refine w_callS F (As := [_, _, _]) (ct_in hE _ (v := z) (by omega) hlw hhi) (lw_S q980 q981 q88 q982) md_X8_in rfl rfl (Nat.le_of_ble_eq_true rfl) dX8_number_78 ⟨by omega, by omega⟩ ⟨by omega, by omega⟩ ?_
        rintro _ _ ⟨rfl, rfl⟩
        refine w_if_ne F (tgt := 86) dX8_number_81 (by decide) (b2i_R _) (fun h5 => ?_) (fun h5 => ?_)
        · rw [b2i_n0] at h5
          refine w_aload_n F dX8_number_86 rfl rfl ?_
          refine w_dup F dX8_number_87 rfl ?_
          refine w_getF F (fM29 _) (by omega) rfl in_X8 (by decide) (Or.inl q901) dX8_number_88 ?_
          refine w_top hp3 ?_
          refine w_iconst F dX8_number_91 ?_
          refine w_iadd F dX8_number_92 ?_
          refine w_putF F (fM29 _) (by omega) rfl in_X8 tyX8 tyX8_ok nmX8 (by decide) (Or.inl q901) rfl rfl rfl (by first | assumption | exact inR0 | exact (hR _ _ _).1 | (constructor <;> omega)) (fun h => by cases h) (fun h => by cases h) dX8_number_93 ?_
          refine w_iconst F dX8_number_96 ?_
          exact w_zret F (by first | exact Or.inl rfl | exact Or.inr rfl | assumption | omega) (by omega) (by omega) (⟨o3.up (by decide), Or.inl ⟨⟨h, by rw [a4]; exact h4, by rw [a4]; exact h5⟩, rfl, by rw [gu_s, a4], by rw [gu_f (by decide), gu_s, a4]⟩⟩) dX8_number_97
        · rw [b2i_0] at h5
          refine w_iconst F dX8_number_84 ?_
          exact w_zret F (by first | exact Or.inl rfl | exact Or.inr rfl | assumption | omega) (by omega) (by omega) (⟨o3, Or.inr ⟨fun w => h5 (by have := w.2.2; rw [a4] at this; exact this), rfl, q, a1, hp3⟩⟩) dX8_number_85
    rw [← hg]
    refine w_aload_n F dX8_number_28 rfl rfl ?_
    refine w_callV F (As := []) (ct_isFigure hE hm g (hT.off og rfl) hpg (by omega)) (lw_V q1164 q1166 qs68 q88 q1167) md_X8_isFigure (by omega) cell_mdO rfl rfl rfl rfl (Nat.le_of_ble_eq_true rfl) dX8_number_29 ⟨by omega, by omega⟩ ⟨by omega, by omega⟩ ?_
    rintro _ _ ⟨rfl, rfl⟩
    refine w_if_eq F (tgt := 60) dX8_number_32 (by decide) (b2i_R _) (fun h2 => ?_) (fun h2 => ?_)
    · rw [b2i_0] at h2
      refine fin (p + 1) _ g (by omega) og hpg ?_ (by omega)
      unfold nmE
      rw [if_neg h2]
    · rw [b2i_n0] at h2
      have hp4 := chT_lt (cs := cs) (p := p + 1) (by omega)
      refine w_bipush F dX8_number_35 rfl ?_
      refine w_iload F dX8_number_37 rfl ?_
      refine w_imul F dX8_number_39 ?_
      refine w_aload_n F dX8_number_40 rfl rfl ?_
      refine w_callV F (As := []) (ct_here hE hm g (hT.off og rfl) hpg (by omega)) (lw_V q1156 q1158 qs66 q88 q1159) md_X8_here (by omega) cell_mdO rfl rfl rfl rfl (Nat.le_of_ble_eq_true rfl) dX8_number_41 ⟨by omega, by omega⟩ ⟨by omega, by omega⟩ ?_
      rintro _ _ ⟨rfl, rfl⟩
      refine w_iadd F dX8_number_44 ?_
      refine w_bipush F dX8_number_45 rfl ?_
      refine w_isub F dX8_number_47 ?_
      refine w_istore F dX8_number_48 (by decide) rfl (lv' := [(0, _), (1, _), (2, _), (3, _), (4, _)]) rfl ?_
      refine w_aload_n F dX8_number_50 rfl rfl ?_
      refine w_dup F dX8_number_51 rfl ?_
      refine w_getF F (fM29 _) (by omega) rfl in_X8 (by decide) (Or.inl q901) dX8_number_52 ?_
      refine w_top hpg ?_
      refine w_iconst F dX8_number_55 ?_
      refine w_iadd F dX8_number_56 ?_
      refine w_top (z' := ((p + 2 : Nat) : Int)) (by omega) ?_
      refine w_putF F (fM29 _) (by omega) rfl in_X8 tyX8 tyX8_ok nmX8 (by decide) (Or.inl q901) rfl rfl rfl (by first | assumption | exact inR0 | exact (hR _ _ _).1 | (constructor <;> omega)) (fun h => by cases h) (fun h => by cases h) dX8_number_57 ?_
      refine fin (p + 2) _ _ (by omega) (og.up (by decide)) (gu_s _ _ _ _ _) ?_ (by omega)
      unfold nmE
      rw [if_pos h2]
  · rw [b2i_0] at h
    refine w_iconst F dX8_number_7 ?_
    exact w_zret F (by first | exact Or.inl rfl | exact Or.inr rfl | assumption | omega) (by omega) (by omega) (⟨Off0.rf, Or.inr ⟨fun w => h w.1, rfl, p, hp2, hp⟩⟩) dX8_number_8
end M28
