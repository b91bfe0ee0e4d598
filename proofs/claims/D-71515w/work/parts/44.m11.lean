/-! the model: snapshots laid and taken -/
def sn (σ : Nat → Nat → Int) (i : Nat) : Int := if i = 0 then σ 0 0 else if i = 1 then σ 5 0 else if i = 2 then σ 11 0 else if i < 15 then σ 1 (i - 3) else if i < 27 then σ 2 (i - 15) else if i < 39 then σ 3 (i - 27) else if i < 51 then σ 4 (i - 39) else if i < 75 then σ 6 (i - 51) else if i < 99 then σ 7 (i - 75) else if i < 123 then σ 8 (i - 99) else if i < 147 then σ 9 (i - 123) else σ 10 (i - 147)
/-- the row f holds the snapshot of γ from a on at the places P -/
def GS (γ g : GG) (f a : Nat) (P : Nat → Prop) : Prop := (∀ i, a ≤ i → P (i - a) → g 0 f i = sn (γ 0) (i - a)) ∧ (∀ i, ¬ (a ≤ i ∧ P (i - a)) → g 0 f i = γ 0 f i) ∧ Off0 [f] γ g
theorem GS.up {γ g : GG} {f a : Nat} {P : Nat → Prop} (h : GS γ g f a P) {q : Nat} {z : Int} (hz : z = sn (γ 0) q) : GS γ (gu g 0 f (a + q) z) f a (fun i => P i ∨ i = q) := by
  refine ⟨fun i h1 h2 => ?_, fun i h1 => ?_, h.2.2.up (by simp)⟩
  · by_cases e : i = a + q
    · subst e
      rw [gu_s, hz, show a + q - a = q by omega]
    · rw [gu_n (by omega)]
      rcases h2 with h2 | h2
      · exact h.1 i h1 h2
      · omega
  · rw [gu_n (fun e => h1 ⟨by omega, Or.inr (by omega)⟩)]
    exact h.2.1 i (fun e => h1 ⟨e.1, Or.inl e.2⟩)
theorem GS.cg {γ g : GG} {f a : Nat} {P P' : Nat → Prop} (h : GS γ g f a P) (hp : ∀ i, P i ↔ P' i) : GS γ g f a P' := by
  have : P = P' := funext fun j => propext (hp j)
  rw [← this]
  exact h
theorem GS.rf {γ : GG} {f a : Nat} : GS γ γ f a (fun _ => False) := ⟨fun _ _ h => h.elim, fun _ _ => rfl, Off0.rf⟩
theorem sn_1 (σ : Nat → Nat → Int) {j : Nat} (h : j < 12) : sn σ (3 + j) = σ 1 j := by
  unfold sn
  simp only [show ¬ 3 + j = 0 by omega, show ¬ 3 + j = 1 by omega, show ¬ 3 + j = 2 by omega, if_false]
  repeat (first | rw [if_pos (by omega)] | rw [if_neg (by omega)])
  rw [show 3 + j - 3 = j by omega]
theorem sn_2 (σ : Nat → Nat → Int) {j : Nat} (h : j < 12) : sn σ (15 + j) = σ 2 j := by
  unfold sn
  simp only [show ¬ 15 + j = 0 by omega, show ¬ 15 + j = 1 by omega, show ¬ 15 + j = 2 by omega, if_false]
  repeat (first | rw [if_pos (by omega)] | rw [if_neg (by omega)])
  rw [show 15 + j - 15 = j by omega]
theorem sn_3 (σ : Nat → Nat → Int) {j : Nat} (h : j < 12) : sn σ (27 + j) = σ 3 j := by
  unfold sn
  simp only [show ¬ 27 + j = 0 by omega, show ¬ 27 + j = 1 by omega, show ¬ 27 + j = 2 by omega, if_false]
  repeat (first | rw [if_pos (by omega)] | rw [if_neg (by omega)])
  rw [show 27 + j - 27 = j by omega]
theorem sn_4 (σ : Nat → Nat → Int) {j : Nat} (h : j < 12) : sn σ (39 + j) = σ 4 j := by
  unfold sn
  simp only [show ¬ 39 + j = 0 by omega, show ¬ 39 + j = 1 by omega, show ¬ 39 + j = 2 by omega, if_false]
  repeat (first | rw [if_pos (by omega)] | rw [if_neg (by omega)])
  rw [show 39 + j - 39 = j by omega]
theorem sn_6 (σ : Nat → Nat → Int) {j : Nat} (h : j < 24) : sn σ (51 + j) = σ 6 j := by
  unfold sn
  simp only [show ¬ 51 + j = 0 by omega, show ¬ 51 + j = 1 by omega, show ¬ 51 + j = 2 by omega, if_false]
  repeat (first | rw [if_pos (by omega)] | rw [if_neg (by omega)])
  rw [show 51 + j - 51 = j by omega]
theorem sn_7 (σ : Nat → Nat → Int) {j : Nat} (h : j < 24) : sn σ (75 + j) = σ 7 j := by
  unfold sn
  simp only [show ¬ 75 + j = 0 by omega, show ¬ 75 + j = 1 by omega, show ¬ 75 + j = 2 by omega, if_false]
  repeat (first | rw [if_pos (by omega)] | rw [if_neg (by omega)])
  rw [show 75 + j - 75 = j by omega]
theorem sn_8 (σ : Nat → Nat → Int) {j : Nat} (h : j < 24) : sn σ (99 + j) = σ 8 j := by
  unfold sn
  simp only [show ¬ 99 + j = 0 by omega, show ¬ 99 + j = 1 by omega, show ¬ 99 + j = 2 by omega, if_false]
  repeat (first | rw [if_pos (by omega)] | rw [if_neg (by omega)])
  rw [show 99 + j - 99 = j by omega]
theorem sn_9 (σ : Nat → Nat → Int) {j : Nat} (h : j < 24) : sn σ (123 + j) = σ 9 j := by
  unfold sn
  simp only [show ¬ 123 + j = 0 by omega, show ¬ 123 + j = 1 by omega, show ¬ 123 + j = 2 by omega, if_false]
  repeat (first | rw [if_pos (by omega)] | rw [if_neg (by omega)])
  rw [show 123 + j - 123 = j by omega]
theorem sn_10 (σ : Nat → Nat → Int) {j : Nat} (h : j < 24) : sn σ (147 + j) = σ 10 j := by
  unfold sn
  simp only [show ¬ 147 + j = 0 by omega, show ¬ 147 + j = 1 by omega, show ¬ 147 + j = 2 by omega, if_false]
  repeat (first | rw [if_pos (by omega)] | rw [if_neg (by omega)])
  rw [show 147 + j - 147 = j by omega]
section M11
variable {l : Launch} {E : EE}
theorem ct_lays (hE : EOk E) (hm : 438 ≤ E.nk) (γ : GG) {key f N : Nat} (hA : ArrK E 1 key 0 f N) (hkey : key < E.nk) (hf : f = 19 ∨ f = 21 ∨ f = 23) (hN : N < 2000) {a : Nat} (ha : a + 171 ≤ N) : Ct l yX8_lays cX8_lays 4 none E 100 16000 [.ref (E.ad 414), .ref (E.ad key), .int (iI (a : Int))] γ (fun v g => v = none ∧ GS γ g f a (fun i => i < 171)) 0 0 := by
  refine Ct.of hE (by decide) (Nat.le_of_ble_eq_true rfl) (fun Φ hLn hΦ F hfr hlo => ?_)
  subst hLn; subst hΦ
  have h414 := F.ok.1.2.2
  have hrc := F.rc
  have hrs := F.rs
  show Wg Φ 4 _ 0 0 0 [(0, _), (1, _), (2, _)] []
  refine w_rng (fun hR => ?_)
  have hbf : isB 0 f = false := by rcases hf with rfl | rfl | rfl <;> rfl
  have rd : ∀ (g : GG) (P : Nat → Prop), GS γ g f a P → ∀ q, q ≤ 11 → g 0 q = γ 0 q := fun g P h q hq => h.2.2.f q (by simp; omega)
  refine w_aload_n F dX8_lays_0 rfl rfl ?_
  refine w_iload_n F dX8_lays_1 rfl ?_
  refine w_aload_n F dX8_lays_2 rfl rfl ?_
  refine w_getF F (fM0 _) (by omega) rfl in_X8 (by decide) (Or.inl q872) dX8_lays_3 ?_
  refine w_iastN F hA (by omega) (by omega) hbf rfl (hR _ _ _).1 (by omega) dX8_lays_6 ?_
  have s0 : GS γ (gu γ 0 f (a + 0) (γ 0 0 0)) f a (fun i => False ∨ i = 0) := GS.rf.up rfl
  refine w_aload_n F dX8_lays_7 rfl rfl ?_
  refine w_iload_n F dX8_lays_8 rfl ?_
  refine w_iconst F dX8_lays_9 ?_
  refine w_iadd F dX8_lays_10 ?_
  refine w_top (z' := ((a + 1 : Nat) : Int)) rfl ?_
  refine w_aload_n F dX8_lays_11 rfl rfl ?_
  refine w_getF F (fM5 _) (by omega) rfl in_X8 (by decide) (Or.inl q877) dX8_lays_12 ?_
  refine w_top (z' := γ 0 5 0) (congrFun (rd _ _ s0 5 (by omega)) 0) ?_
  refine w_iastN F hA (by omega) (by omega) hbf rfl (hR _ _ _).1 (by omega) dX8_lays_15 ?_
  have s1 := s0.up (q := 1) (z := γ 0 5 0) rfl
  refine w_aload_n F dX8_lays_16 rfl rfl ?_
  refine w_iload_n F dX8_lays_17 rfl ?_
  refine w_iconst F dX8_lays_18 ?_
  refine w_iadd F dX8_lays_19 ?_
  refine w_top (z' := ((a + 2 : Nat) : Int)) rfl ?_
  refine w_aload_n F dX8_lays_20 rfl rfl ?_
  refine w_getF F (fM11 _) (by omega) rfl in_X8 (by decide) (Or.inl q883) dX8_lays_21 ?_
  refine w_top (z' := γ 0 11 0) (congrFun (rd _ _ s1 11 (by omega)) 0) ?_
  refine w_iastN F hA (by omega) (by omega) hbf rfl (hR _ _ _).1 (by omega) dX8_lays_24 ?_
  have s2 := s1.up (q := 2) (z := γ 0 11 0) rfl
  refine w_iconst F dX8_lays_25 ?_
  refine w_istore_n F dX8_lays_26 (by decide) rfl (lv' := [(0, _), (1, _), (2, _), (3, _)]) rfl ?_
  have loop2 : ∀ (m j : Nat) (g : GG), j ≤ 24 → 24 - j < m → GS γ g f a (fun i => i < 51 ∨ (51 ≤ i ∧ i < 51 + j) ∨ (75 ≤ i ∧ i < 75 + j) ∨ (99 ≤ i ∧ i < 99 + j) ∨ (123 ≤ i ∧ i < 123 + j) ∨ (147 ≤ i ∧ i < 147 + j)) → Wg Φ 4 g 0 0 96 [(0, .ref (Φ.E.ad 414)), (1, .ref (Φ.E.ad key)), (2, .int (iI (a : Int))), (3, .int (iI (j : Int)))] [] := by
    intro m
    induction m with
    | zero => intro j g h1 h2; omega
    | succ m ih =>
      intro j g h1 h2 h3
      refine w_iload_n F dX8_lays_96 rfl ?_
      refine w_bipush F dX8_lays_97 rfl ?_
      refine w_icmp_ge F (tgt := 179) dX8_lays_99 (by decide) (by first | assumption | exact inR0 | exact (hR _ _ _).1 | (constructor <;> omega)) (by first | assumption | exact inR0 | exact (hR _ _ _).1 | (constructor <;> omega)) (fun h => ?_) (fun h => ?_)
      · skip
        exact w_vret F (by omega) (by omega) (⟨rfl, h3.cg (fun i => by omega)⟩) dX8_lays_179
      · have hj : j < 24 := by omega
        have r0 := rd _ _ h3
        refine w_aload_n F dX8_lays_102 rfl rfl ?_
        refine w_iload_n F dX8_lays_103 rfl ?_
        refine w_bipush F dX8_lays_104 rfl ?_
        refine w_iadd F dX8_lays_106 ?_
        refine w_iload_n F dX8_lays_107 rfl ?_
        refine w_iadd F dX8_lays_108 ?_
        refine w_top (z' := ((a + (51 + j) : Nat) : Int)) (by omega) ?_
        refine w_aload_n F dX8_lays_109 rfl rfl ?_
        refine w_get F (by omega) cell_mdO rfl in_X8 6 (by decide) (Or.inl q878) rfl dX8_lays_110 ?_
        refine w_iload_n F dX8_lays_113 rfl ?_
        first | refine w_ialdN F (aM6 _) (by omega) (by decide) (by omega) dX8_lays_114 ?_ | refine w_iald F (aM6 _) (by omega) (by decide) (by omega) (by omega) dX8_lays_114 ?_
        refine w_top (z' := γ 0 6 j) (congrFun (rd _ _ h3 6 (by omega)) j) ?_
        refine w_iastN F hA (by omega) (by omega) hbf rfl (hR _ _ _).1 (by omega) dX8_lays_115 ?_
        have t0 := h3.up (q := 51 + j) (z := γ 0 6 j) (sn_6 (γ 0) hj).symm
        refine w_aload_n F dX8_lays_116 rfl rfl ?_
        refine w_iload_n F dX8_lays_117 rfl ?_
        refine w_bipush F dX8_lays_118 rfl ?_
        refine w_iadd F dX8_lays_120 ?_
        refine w_iload_n F dX8_lays_121 rfl ?_
        refine w_iadd F dX8_lays_122 ?_
        refine w_top (z' := ((a + (75 + j) : Nat) : Int)) (by omega) ?_
        refine w_aload_n F dX8_lays_123 rfl rfl ?_
        refine w_get F (by omega) cell_mdO rfl in_X8 7 (by decide) (Or.inl q879) rfl dX8_lays_124 ?_
        refine w_iload_n F dX8_lays_127 rfl ?_
        first | refine w_ialdN F (aM7 _) (by omega) (by decide) (by omega) dX8_lays_128 ?_ | refine w_iald F (aM7 _) (by omega) (by decide) (by omega) (by omega) dX8_lays_128 ?_
        refine w_top (z' := γ 0 7 j) (congrFun (rd _ _ t0 7 (by omega)) j) ?_
        refine w_iastN F hA (by omega) (by omega) hbf rfl (hR _ _ _).1 (by omega) dX8_lays_129 ?_
        have t1 := t0.up (q := 75 + j) (z := γ 0 7 j) (sn_7 (γ 0) hj).symm
        refine w_aload_n F dX8_lays_130 rfl rfl ?_
        refine w_iload_n F dX8_lays_131 rfl ?_
        refine w_bipush F dX8_lays_132 rfl ?_
        refine w_iadd F dX8_lays_134 ?_
        refine w_iload_n F dX8_lays_135 rfl ?_
        refine w_iadd F dX8_lays_136 ?_
        refine w_top (z' := ((a + (99 + j) : Nat) : Int)) (by omega) ?_
        refine w_aload_n F dX8_lays_137 rfl rfl ?_
        refine w_get F (by omega) cell_mdO rfl in_X8 8 (by decide) (Or.inl q880) rfl dX8_lays_138 ?_
        refine w_iload_n F dX8_lays_141 rfl ?_
        first | refine w_ialdN F (aM8 _) (by omega) (by decide) (by omega) dX8_lays_142 ?_ | refine w_iald F (aM8 _) (by omega) (by decide) (by omega) (by omega) dX8_lays_142 ?_
        refine w_top (z' := γ 0 8 j) (congrFun (rd _ _ t1 8 (by omega)) j) ?_
        refine w_iastN F hA (by omega) (by omega) hbf rfl (hR _ _ _).1 (by omega) dX8_lays_143 ?_
        have t2 := t1.up (q := 99 + j) (z := γ 0 8 j) (sn_8 (γ 0) hj).symm
        refine w_aload_n F dX8_lays_144 rfl rfl ?_
        refine w_iload_n F dX8_lays_145 rfl ?_
        refine w_bipush F dX8_lays_146 rfl ?_
        refine w_iadd F dX8_lays_148 ?_
        refine w_iload_n F dX8_lays_149 rfl ?_
        refine w_iadd F dX8_lays_150 ?_
        refine w_top (z' := ((a + (123 + j) : Nat) : Int)) (by omega) ?_
        refine w_aload_n F dX8_lays_151 rfl rfl ?_
        refine w_get F (by omega) cell_mdO rfl in_X8 9 (by decide) (Or.inl q881) rfl dX8_lays_152 ?_
        refine w_iload_n F dX8_lays_155 rfl ?_
        first | refine w_ialdN F (aM9 _) (by omega) (by decide) (by omega) dX8_lays_156 ?_ | refine w_iald F (aM9 _) (by omega) (by decide) (by omega) (by omega) dX8_lays_156 ?_
        refine w_top (z' := γ 0 9 j) (congrFun (rd _ _ t2 9 (by omega)) j) ?_
        refine w_iastN F hA (by omega) (by omega) hbf rfl (hR _ _ _).1 (by omega) dX8_lays_157 ?_
        have t3 := t2.up (q := 123 + j) (z := γ 0 9 j) (sn_9 (γ 0) hj).symm
        refine w_aload_n F dX8_lays_158 rfl rfl ?_
        refine w_iload_n F dX8_lays_159 rfl ?_
        refine w_sipush F dX8_lays_160 rfl ?_
        refine w_iadd F dX8_lays_163 ?_
        refine w_iload_n F dX8_lays_164 rfl ?_
        refine w_iadd F dX8_lays_165 ?_
        refine w_top (z' := ((a + (147 + j) : Nat) : Int)) (by omega) ?_
        refine w_aload_n F dX8_lays_166 rfl rfl ?_
        refine w_get F (by omega) cell_mdO rfl in_X8 10 (by decide) (Or.inl q882) rfl dX8_lays_167 ?_
        refine w_iload_n F dX8_lays_170 rfl ?_
        first | refine w_ialdN F (aM10 _) (by omega) (by decide) (by omega) dX8_lays_171 ?_ | refine w_iald F (aM10 _) (by omega) (by decide) (by omega) (by omega) dX8_lays_171 ?_
        refine w_top (z' := γ 0 10 j) (congrFun (rd _ _ t3 10 (by omega)) j) ?_
        refine w_iastN F hA (by omega) (by omega) hbf rfl (hR _ _ _).1 (by omega) dX8_lays_172 ?_
        have t4 := t3.up (q := 147 + j) (z := γ 0 10 j) (sn_10 (γ 0) hj).symm
        refine w_iinc F dX8_lays_173 rfl (by decide) rfl (lv' := [(0, _), (1, _), (2, _), (3, _)]) rfl ?_
        refine w_goto F (tgt := 96) dX8_lays_176 (by decide) ?_
        exact ih (j + 1) _ (by omega) (by omega) (t4.cg (fun i => by omega))
  have loop1 : ∀ (m j : Nat) (g : GG), j ≤ 12 → 12 - j < m → GS γ g f a (fun i => i < 3 ∨ (3 ≤ i ∧ i < 3 + j) ∨ (15 ≤ i ∧ i < 15 + j) ∨ (27 ≤ i ∧ i < 27 + j) ∨ (39 ≤ i ∧ i < 39 + j)) → Wg Φ 4 g 0 0 27 [(0, .ref (Φ.E.ad 414)), (1, .ref (Φ.E.ad key)), (2, .int (iI (a : Int))), (3, .int (iI (j : Int)))] [] := by
    intro m
    induction m with
    | zero => intro j g h1 h2; omega
    | succ m ih =>
      intro j g h1 h2 h3
      refine w_iload_n F dX8_lays_27 rfl ?_
      refine w_bipush F dX8_lays_28 rfl ?_
      refine w_icmp_ge F (tgt := 94) dX8_lays_30 (by decide) (by first | assumption | exact inR0 | exact (hR _ _ _).1 | (constructor <;> omega)) (by first | assumption | exact inR0 | exact (hR _ _ _).1 | (constructor <;> omega)) (fun h => ?_) (fun h => ?_)
      · refine w_iconst F dX8_lays_94 ?_
        refine w_istore_n F dX8_lays_95 (by decide) rfl (lv' := [(0, _), (1, _), (2, _), (3, _)]) rfl ?_
        exact loop2 25 0 g (by omega) (by omega) (h3.cg (fun i => by omega))
      · have hj : j < 12 := by omega
        refine w_aload_n F dX8_lays_33 rfl rfl ?_
        refine w_iload_n F dX8_lays_34 rfl ?_
        refine w_iconst F dX8_lays_35 ?_
        refine w_iadd F dX8_lays_36 ?_
        refine w_iload_n F dX8_lays_37 rfl ?_
        refine w_iadd F dX8_lays_38 ?_
        refine w_top (z' := ((a + (3 + j) : Nat) : Int)) (by omega) ?_
        refine w_aload_n F dX8_lays_39 rfl rfl ?_
        refine w_get F (by omega) cell_mdO rfl in_X8 1 (by decide) (Or.inl q873) rfl dX8_lays_40 ?_
        refine w_iload_n F dX8_lays_43 rfl ?_
        first | refine w_ialdN F (aM1 _) (by omega) (by decide) (by omega) dX8_lays_44 ?_ | refine w_iald F (aM1 _) (by omega) (by decide) (by omega) (by omega) dX8_lays_44 ?_
        refine w_top (z' := γ 0 1 j) (congrFun (rd _ _ h3 1 (by omega)) j) ?_
        refine w_iastN F hA (by omega) (by omega) hbf rfl (hR _ _ _).1 (by omega) dX8_lays_45 ?_
        have t0 := h3.up (q := 3 + j) (z := γ 0 1 j) (sn_1 (γ 0) hj).symm
        refine w_aload_n F dX8_lays_46 rfl rfl ?_
        refine w_iload_n F dX8_lays_47 rfl ?_
        refine w_bipush F dX8_lays_48 rfl ?_
        refine w_iadd F dX8_lays_50 ?_
        refine w_iload_n F dX8_lays_51 rfl ?_
        refine w_iadd F dX8_lays_52 ?_
        refine w_top (z' := ((a + (15 + j) : Nat) : Int)) (by omega) ?_
        refine w_aload_n F dX8_lays_53 rfl rfl ?_
        refine w_get F (by omega) cell_mdO rfl in_X8 2 (by decide) (Or.inl q874) rfl dX8_lays_54 ?_
        refine w_iload_n F dX8_lays_57 rfl ?_
        first | refine w_ialdN F (aM2 _) (by omega) (by decide) (by omega) dX8_lays_58 ?_ | refine w_iald F (aM2 _) (by omega) (by decide) (by omega) (by omega) dX8_lays_58 ?_
        refine w_top (z' := γ 0 2 j) (congrFun (rd _ _ t0 2 (by omega)) j) ?_
        refine w_iastN F hA (by omega) (by omega) hbf rfl (hR _ _ _).1 (by omega) dX8_lays_59 ?_
        have t1 := t0.up (q := 15 + j) (z := γ 0 2 j) (sn_2 (γ 0) hj).symm
        refine w_aload_n F dX8_lays_60 rfl rfl ?_
        refine w_iload_n F dX8_lays_61 rfl ?_
        refine w_bipush F dX8_lays_62 rfl ?_
        refine w_iadd F dX8_lays_64 ?_
        refine w_iload_n F dX8_lays_65 rfl ?_
        refine w_iadd F dX8_lays_66 ?_
        refine w_top (z' := ((a + (27 + j) : Nat) : Int)) (by omega) ?_
        refine w_aload_n F dX8_lays_67 rfl rfl ?_
        refine w_get F (by omega) cell_mdO rfl in_X8 3 (by decide) (Or.inl q875) rfl dX8_lays_68 ?_
        refine w_iload_n F dX8_lays_71 rfl ?_
        first | refine w_ialdN F (aM3 _) (by omega) (by decide) (by omega) dX8_lays_72 ?_ | refine w_iald F (aM3 _) (by omega) (by decide) (by omega) (by omega) dX8_lays_72 ?_
        refine w_top (z' := γ 0 3 j) (congrFun (rd _ _ t1 3 (by omega)) j) ?_
        refine w_iastN F hA (by omega) (by omega) hbf rfl (hR _ _ _).1 (by omega) dX8_lays_73 ?_
        have t2 := t1.up (q := 27 + j) (z := γ 0 3 j) (sn_3 (γ 0) hj).symm
        refine w_aload_n F dX8_lays_74 rfl rfl ?_
        refine w_iload_n F dX8_lays_75 rfl ?_
        refine w_bipush F dX8_lays_76 rfl ?_
        refine w_iadd F dX8_lays_78 ?_
        refine w_iload_n F dX8_lays_79 rfl ?_
        refine w_iadd F dX8_lays_80 ?_
        refine w_top (z' := ((a + (39 + j) : Nat) : Int)) (by omega) ?_
        refine w_aload_n F dX8_lays_81 rfl rfl ?_
        refine w_get F (by omega) cell_mdO rfl in_X8 4 (by decide) (Or.inl q876) rfl dX8_lays_82 ?_
        refine w_iload_n F dX8_lays_85 rfl ?_
        first | refine w_ialdN F (aM4 _) (by omega) (by decide) (by omega) dX8_lays_86 ?_ | refine w_iald F (aM4 _) (by omega) (by decide) (by omega) (by omega) dX8_lays_86 ?_
        refine w_top (z' := γ 0 4 j) (congrFun (rd _ _ t2 4 (by omega)) j) ?_
        refine w_iastN F hA (by omega) (by omega) hbf rfl (hR _ _ _).1 (by omega) dX8_lays_87 ?_
        have t3 := t2.up (q := 39 + j) (z := γ 0 4 j) (sn_4 (γ 0) hj).symm
        refine w_iinc F dX8_lays_88 rfl (by decide) rfl (lv' := [(0, _), (1, _), (2, _), (3, _)]) rfl ?_
        refine w_goto F (tgt := 27) dX8_lays_91 (by decide) ?_
        exact ih (j + 1) _ (by omega) (by omega) (t3.cg (fun i => by omega))
  exact loop1 13 0 _ (by omega) (by omega) (s2.cg (fun i => by simp; omega))
end M11
