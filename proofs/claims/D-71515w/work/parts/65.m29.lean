/-! the model: readsJob -/
def fLo (i : Nat) : Int := if i = 3 then 1 else 0
def fHi (i : Nat) : Int := if i = 0 then 3 else if i = 3 then 9 else 99
def fEn (i : Nat) : Int := if i = 3 then 59 else 44
/-- where the i-th number of the job at p begins -/
def rjP (cs : List Int) (p : Nat) : Nat → Nat
  | 0 => p + 1
  | i + 1 => (nmE cs (rjP cs p i)).1 + 1
def rjV (cs : List Int) (p i : Nat) : Int := (nmE cs (rjP cs p i)).2
abbrev rjOk (cs : List Int) (p m : Nat) : Prop := chT cs p = 106 ∧ m ≠ 12 ∧ ∀ i, i < 4 → nmOk cs (rjP cs p i) (fLo i) (fHi i) (fEn i)
theorem fEn_r (i : Nat) : 0 < fEn i ∧ fEn i < 100 := by unfold fEn; split <;> omega
theorem fHi_r (i : Nat) : 0 < fHi i ∧ fHi i < 100 := by unfold fHi; split; omega; split <;> omega
theorem fLo_r (i : Nat) : 0 ≤ fLo i ∧ fLo i < 100 := by unfold fLo; split <;> omega
section M29
variable {l : Launch} {E : EE}
theorem ct_readsJob (hE : EOk E) (hm : 438 ≤ E.nk) (γ : GG) {cs : List Int} (hT : TXT (γ 0) cs) {p m : Nat} (hp : γ 0 29 0 = (p : Int)) (hp2 : p ≤ 200) (hq : γ 0 30 0 = (m : Int)) (hq2 : m ≤ 12) : Ct l yX8_readsJob cX8_readsJob 2 (some .boolean) E 400 28000 [.ref (E.ad 414)] γ (fun r g => Off0 [29, 30, 31, 32] γ g ∧ ((rjOk cs p m ∧ r = some (.int (iI 1)) ∧ g 0 29 0 = (rjP cs p 4 : Int) ∧ rjP cs p 4 ≤ 200 ∧ g 0 30 0 = (m : Int) + 1 ∧ (∀ i, i < 4 → g 0 32 (4 * m + i) = rjV cs p i) ∧ ∀ i, i < 4 * m → g 0 32 i = γ 0 32 i) ∨ (¬ rjOk cs p m ∧ r = some (.int (iI 0))))) 0 0 := by
  refine Ct.of hE (by decide) (Nat.le_of_ble_eq_true rfl) (fun Φ hLn hΦ F hfr hlo => ?_)
  subst hLn; subst hΦ
  have h414 := F.ok.1.2.2
  have hrc := F.rc
  have hrs := F.rs
  show Wg Φ 2 _ 0 0 0 [(0, _)] []
  refine w_rng (fun hR => ?_)
  have hlen := hT.2.1
  have hcp := hT.ch p
  refine w_aload_n F dX8_readsJob_0 rfl rfl ?_
  refine w_callV F (As := []) (ct_here hE hm γ hT hp hp2) (lw_V q1156 q1158 qs66 q88 q1159) md_X8_here (by omega) cell_mdO rfl rfl rfl rfl (Nat.le_of_ble_eq_true rfl) dX8_readsJob_1 ⟨by omega, by omega⟩ ⟨by omega, by omega⟩ ?_
  rintro _ _ ⟨rfl, rfl⟩
  refine w_bipush F dX8_readsJob_4 rfl ?_
  refine w_icmp_ne F (tgt := 18) dX8_readsJob_6 (by decide) (by first | assumption | exact inR0 | exact (hR _ _ _).1 | (constructor <;> omega)) (by first | assumption | exact inR0 | exact (hR _ _ _).1 | (constructor <;> omega)) (fun h1 => ?_) (fun h1 => ?_)
  · refine w_iconst F dX8_readsJob_18 ?_
    exact w_zret F (by first | exact Or.inl rfl | exact Or.inr rfl | assumption | omega) (by omega) (by omega) (⟨Off0.rf, Or.inr ⟨fun w => h1 w.1, rfl⟩⟩) dX8_readsJob_19
  · refine w_aload_n F dX8_readsJob_9 rfl rfl ?_
    refine w_getF F (fM30 _) (by omega) rfl in_X8 (by decide) (Or.inl q902) dX8_readsJob_10 ?_
    refine w_top hq ?_
    refine w_bipush F dX8_readsJob_13 rfl ?_
    refine w_icmp_ne F (tgt := 20) dX8_readsJob_15 (by decide) (by first | assumption | exact inR0 | exact (hR _ _ _).1 | (constructor <;> omega)) (by first | assumption | exact inR0 | exact (hR _ _ _).1 | (constructor <;> omega)) (fun h2 => ?_) (fun h2 => ?_)
    · have hp3 := chT_lt (cs := cs) (p := p) (by omega)
      refine w_aload_n F dX8_readsJob_20 rfl rfl ?_
      refine w_dup F dX8_readsJob_21 rfl ?_
      refine w_getF F (fM29 _) (by omega) rfl in_X8 (by decide) (Or.inl q901) dX8_readsJob_22 ?_
      refine w_top hp ?_
      refine w_iconst F dX8_readsJob_25 ?_
      refine w_iadd F dX8_readsJob_26 ?_
      refine w_top (z' := ((p + 1 : Nat) : Int)) (by omega) ?_
      refine w_putF F (fM29 _) (by omega) rfl in_X8 tyX8 tyX8_ok nmX8 (by decide) (Or.inl q901) rfl rfl rfl (by first | assumption | exact inR0 | exact (hR _ _ _).1 | (constructor <;> omega)) (fun h => by cases h) (fun h => by cases h) dX8_readsJob_27 ?_
      refine w_iconst F dX8_readsJob_30 ?_
      refine w_istore_n F dX8_readsJob_31 (by decide) rfl (lv' := [(0, _), (1, _)]) rfl ?_
      have loop : ∀ (k i : Nat) (g : GG), i ≤ 4 → 4 - i < k → Off0 [29, 30, 31, 32] γ g → g 0 30 = γ 0 30 → g 0 29 0 = (rjP cs p i : Int) → rjP cs p i ≤ 200 → (∀ q, q < i → nmOk cs (rjP cs p q) (fLo q) (fHi q) (fEn q)) → (∀ q, q < i → g 0 32 (4 * m + q) = rjV cs p q) → (∀ q, q < 4 * m → g 0 32 q = γ 0 32 q) → Wg Φ 2 g 0 0 32 [(0, .ref (Φ.E.ad 414)), (1, .int (iI (i : Int)))] [] := by
        intro k
        induction k with
        | zero => intro i g b1 b2; omega
        | succ k ih =>
          intro i g b1 b2 a1 a2 a3 a4 a5 a6 a7
          refine w_iload_n F dX8_readsJob_32 rfl ?_
          refine w_iconst F dX8_readsJob_33 ?_
          refine w_icmp_ge F (tgt := 111) dX8_readsJob_34 (by decide) (by first | assumption | exact inR0 | exact (hR _ _ _).1 | (constructor <;> omega)) (by first | assumption | exact inR0 | exact (hR _ _ _).1 | (constructor <;> omega)) (fun h4 => ?_) (fun h4 => ?_)
          · have e : i = 4 := by omega
            subst e
            refine w_aload_n F dX8_readsJob_111 rfl rfl ?_
            refine w_dup F dX8_readsJob_112 rfl ?_
            refine w_getF F (fM30 _) (by omega) rfl in_X8 (by decide) (Or.inl q902) dX8_readsJob_113 ?_
            refine w_top (z' := (m : Int)) (by rw [a2]; exact hq) ?_
            refine w_iconst F dX8_readsJob_116 ?_
            refine w_iadd F dX8_readsJob_117 ?_
            refine w_putF F (fM30 _) (by omega) rfl in_X8 tyX8 tyX8_ok nmX8 (by decide) (Or.inl q902) rfl rfl rfl (by first | assumption | exact inR0 | exact (hR _ _ _).1 | (constructor <;> omega)) (fun h => by cases h) (fun h => by cases h) dX8_readsJob_118 ?_
            refine w_iconst F dX8_readsJob_121 ?_
            exact w_zret F (by first | exact Or.inl rfl | exact Or.inr rfl | assumption | omega) (by omega) (by omega) (⟨a1.up (by decide), Or.inl ⟨⟨by omega, by omega, a5⟩, rfl, by rw [gu_f (by decide)]; exact a3, a4, gu_s _ _ _ _ _, by rw [gu_f (by decide)]; exact a6, by rw [gu_f (by decide)]; exact a7⟩⟩) dX8_readsJob_122
          · have cl : Wg Φ 2 g 0 0 80 [(0, .ref (Φ.E.ad 414)), (1, .int (iI (i : Int)))] [.int (iI (fEn i)), .int (iI (fHi i)), .int (iI (fLo i)), .ref (Φ.E.ad 414)] := by
              have r1 := fEn_r i
              have r2 := fHi_r i
              have r3 := fLo_r i
              refine w_callV F (As := [_, _, _]) (ct_number hE hm g (hT.off a1 rfl) a3 a4 (lo := fLo i) (hi := fHi i) (en := fEn i) (by omega) (by omega) (by omega) (by omega)) (lw_V q1160 q1162 qs67 q88 q1163) md_X8_number (by omega) cell_mdO rfl rfl rfl rfl (Nat.le_of_ble_eq_true rfl) dX8_readsJob_80 ⟨by omega, by omega⟩ ⟨by omega, by omega⟩ ?_
              rintro _ g2 ⟨o2, (⟨n1, rfl, n3, n4⟩ | ⟨n1, rfl, n3⟩)⟩
              · have hc := chT_lt (cs := cs) (p := (nmE cs (rjP cs p i)).1) (by rw [n1.2.1]; omega)
                have hz := n1.2.2
                refine w_if_ne F (tgt := 88) dX8_readsJob_83 (by decide) (by first | assumption | exact inR0 | exact (hR _ _ _).1 | (constructor <;> omega)) (fun h5 => ?_) (fun h5 => ?_)
                · refine w_aload_n F dX8_readsJob_88 rfl rfl ?_
                  refine w_get F (by omega) cell_mdO rfl in_X8 32 (by decide) (Or.inl q904) rfl dX8_readsJob_89 ?_
                  refine w_iconst F dX8_readsJob_92 ?_
                  refine w_aload_n F dX8_readsJob_93 rfl rfl ?_
                  refine w_getF F (fM30 _) (by omega) rfl in_X8 (by decide) (Or.inl q902) dX8_readsJob_94 ?_
                  refine w_top (z' := (m : Int)) (by rw [o2.f 30 rfl, a2]; exact hq) ?_
                  refine w_imul F dX8_readsJob_97 ?_
                  refine w_iload_n F dX8_readsJob_98 rfl ?_
                  refine w_iadd F dX8_readsJob_99 ?_
                  refine w_top (z' := ((4 * m + i : Nat) : Int)) (by omega) ?_
                  refine w_aload_n F dX8_readsJob_100 rfl rfl ?_
                  refine w_getF F (fM31 _) (by omega) rfl in_X8 (by decide) (Or.inl q903) dX8_readsJob_101 ?_
                  refine w_top n4 ?_
                  first | refine w_iastN F (aM32 _) (by omega) (by decide) rfl rfl (by first | assumption | exact inR0 | exact (hR _ _ _).1 | (constructor <;> omega)) (by omega) dX8_readsJob_104 ?_ | refine w_iast F (aM32 _) (by omega) (by decide) rfl rfl (by first | assumption | exact inR0 | exact (hR _ _ _).1 | (constructor <;> omega)) (by omega) (by omega) dX8_readsJob_104 ?_
                  refine w_iinc F dX8_readsJob_105 rfl (by decide) rfl (lv' := [(0, _), (1, _)]) rfl ?_
                  refine w_goto F (tgt := 32) dX8_readsJob_108 (by decide) ?_
                  refine ih (i + 1) _ (by omega) (by omega) ((a1.tr (o2.mono (by decide))).up (by decide)) ?_ ?_ ?_ ?_ ?_ ?_
                  · rw [gu_f (by decide), o2.f 30 rfl]; exact a2
                  · rw [gu_f (by decide), n3]; rfl
                  · show (nmE cs (rjP cs p i)).1 + 1 ≤ 200; omega
                  · intro q hq
                    by_cases e : q = i
                    · rw [e]; exact n1
                    · exact a5 q (by omega)
                  · intro q hq
                    by_cases e : q = i
                    · rw [e]; exact gu_s _ _ _ _ _
                    · rw [gu_n (by omega), o2.f 32 rfl]; exact a6 q (by omega)
                  · intro q hq
                    rw [gu_n (by omega), o2.f 32 rfl]; exact a7 q hq
                · omega
              · skip
                refine w_if_ne F (tgt := 88) dX8_readsJob_83 (by decide) (by first | assumption | exact inR0 | exact (hR _ _ _).1 | (constructor <;> omega)) (fun h5 => ?_) (fun h5 => ?_)
                · omega
                · refine w_iconst F dX8_readsJob_86 ?_
                  exact w_zret F (by first | exact Or.inl rfl | exact Or.inr rfl | assumption | omega) (by omega) (by omega) (⟨a1.tr (o2.mono (by decide)), Or.inr ⟨fun w => n1 (w.2.2 i (by omega)), rfl⟩⟩) dX8_readsJob_87
            refine w_aload_n F dX8_readsJob_37 rfl rfl ?_
            refine w_iload_n F dX8_readsJob_38 rfl ?_
            refine w_iconst F dX8_readsJob_39 ?_
            refine w_icmp_ne F (tgt := 47) dX8_readsJob_40 (by decide) (by first | assumption | exact inR0 | exact (hR _ _ _).1 | (constructor <;> omega)) (by first | assumption | exact inR0 | exact (hR _ _ _).1 | (constructor <;> omega)) (fun h5 => ?_) (fun h5 => ?_)
            · refine w_iconst F dX8_readsJob_47 ?_
              refine w_iload_n F dX8_readsJob_48 rfl ?_
              refine w_if_ne F (tgt := 56) dX8_readsJob_49 (by decide) (by first | assumption | exact inR0 | exact (hR _ _ _).1 | (constructor <;> omega)) (fun h6 => ?_) (fun h6 => ?_)
              · refine w_iload_n F dX8_readsJob_56 rfl ?_
                refine w_iconst F dX8_readsJob_57 ?_
                refine w_icmp_ne F (tgt := 66) dX8_readsJob_58 (by decide) (by first | assumption | exact inR0 | exact (hR _ _ _).1 | (constructor <;> omega)) (by first | assumption | exact inR0 | exact (hR _ _ _).1 | (constructor <;> omega)) (fun h7 => ?_) (fun h7 => ?_)
                · refine w_bipush F dX8_readsJob_66 rfl ?_
                  refine w_iload_n F dX8_readsJob_68 rfl ?_
                  refine w_iconst F dX8_readsJob_69 ?_
                  refine w_icmp_ne F (tgt := 78) dX8_readsJob_70 (by decide) (by first | assumption | exact inR0 | exact (hR _ _ _).1 | (constructor <;> omega)) (by first | assumption | exact inR0 | exact (hR _ _ _).1 | (constructor <;> omega)) (fun h8 => ?_) (fun h8 => ?_)
                  · refine w_bipush F dX8_readsJob_78 rfl ?_
                    rw [show fEn i = 44 by unfold fEn; rw [if_neg (by omega)], show fHi i = 99 by unfold fHi; rw [if_neg (by omega), if_neg (by omega)], show fLo i = 0 by unfold fLo; rw [if_neg (by omega)]] at cl
                    exact cl
                  · omega
                · omega
              · refine w_iconst F dX8_readsJob_52 ?_
                refine w_goto F (tgt := 68) dX8_readsJob_53 (by decide) ?_
                refine w_iload_n F dX8_readsJob_68 rfl ?_
                refine w_iconst F dX8_readsJob_69 ?_
                refine w_icmp_ne F (tgt := 78) dX8_readsJob_70 (by decide) (by first | assumption | exact inR0 | exact (hR _ _ _).1 | (constructor <;> omega)) (by first | assumption | exact inR0 | exact (hR _ _ _).1 | (constructor <;> omega)) (fun h8 => ?_) (fun h8 => ?_)
                · refine w_bipush F dX8_readsJob_78 rfl ?_
                  rw [show fEn i = 44 by unfold fEn; rw [if_neg (by omega)], show fHi i = 3 by unfold fHi; rw [if_pos (by omega)], show fLo i = 0 by unfold fLo; rw [if_neg (by omega)]] at cl
                  exact cl
                · omega
            · refine w_iconst F dX8_readsJob_43 ?_
              refine w_goto F (tgt := 48) dX8_readsJob_44 (by decide) ?_
              refine w_iload_n F dX8_readsJob_48 rfl ?_
              refine w_if_ne F (tgt := 56) dX8_readsJob_49 (by decide) (by first | assumption | exact inR0 | exact (hR _ _ _).1 | (constructor <;> omega)) (fun h6 => ?_) (fun h6 => ?_)
              · refine w_iload_n F dX8_readsJob_56 rfl ?_
                refine w_iconst F dX8_readsJob_57 ?_
                refine w_icmp_ne F (tgt := 66) dX8_readsJob_58 (by decide) (by first | assumption | exact inR0 | exact (hR _ _ _).1 | (constructor <;> omega)) (by first | assumption | exact inR0 | exact (hR _ _ _).1 | (constructor <;> omega)) (fun h7 => ?_) (fun h7 => ?_)
                · omega
                · refine w_bipush F dX8_readsJob_61 rfl ?_
                  refine w_goto F (tgt := 68) dX8_readsJob_63 (by decide) ?_
                  refine w_iload_n F dX8_readsJob_68 rfl ?_
                  refine w_iconst F dX8_readsJob_69 ?_
                  refine w_icmp_ne F (tgt := 78) dX8_readsJob_70 (by decide) (by first | assumption | exact inR0 | exact (hR _ _ _).1 | (constructor <;> omega)) (by first | assumption | exact inR0 | exact (hR _ _ _).1 | (constructor <;> omega)) (fun h8 => ?_) (fun h8 => ?_)
                  · omega
                  · refine w_bipush F dX8_readsJob_73 rfl ?_
                    refine w_goto F (tgt := 80) dX8_readsJob_75 (by decide) ?_
                    rw [show fEn i = 59 by unfold fEn; rw [if_pos (by omega)], show fHi i = 9 by unfold fHi; rw [if_neg (by omega), if_pos (by omega)], show fLo i = 1 by unfold fLo; rw [if_pos (by omega)]] at cl
                    exact cl
              · omega
      refine loop 5 0 _ (by omega) (by omega) (Off0.rf.up (by decide)) (by rw [gu_f (by decide)]) (gu_s _ _ _ _ _) (by show p + 1 ≤ 200; omega) (fun q hq => by omega) (fun q hq => by omega) (fun q _ => by rw [gu_f (by decide)])
    · refine w_iconst F dX8_readsJob_18 ?_
      exact w_zret F (by first | exact Or.inl rfl | exact Or.inr rfl | assumption | omega) (by omega) (by omega) (⟨Off0.rf, Or.inr ⟨fun w => w.2.1 (by omega), rfl⟩⟩) dX8_readsJob_19
end M29
