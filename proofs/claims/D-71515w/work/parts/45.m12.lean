/-- a snapshot read back -/
def us (A : Nat → Int) (f i : Nat) : Int := if f = 0 then A 0 else if f = 5 then A 1 else if f = 11 then A 2 else if f = 1 then A (3 + i) else if f = 2 then A (15 + i) else if f = 3 then A (27 + i) else if f = 4 then A (39 + i) else if f = 6 then A (51 + i) else if f = 7 then A (75 + i) else if f = 8 then A (99 + i) else if f = 9 then A (123 + i) else A (147 + i)
def TK (γ g : GG) (A : Nat → Int) (P : Nat → Nat → Prop) : Prop := (∀ f i, P f i → g 0 f i = us A f i) ∧ Off0 [0, 1, 2, 3, 4, 5, 6, 7, 8, 9, 10, 11] γ g
theorem TK.up {γ g : GG} {A : Nat → Int} {P : Nat → Nat → Prop} (h : TK γ g A P) {f q : Nat} {z : Int} (hf : f ≤ 11) (hz : z = us A f q) : TK γ (gu g 0 f q z) A (fun a b => P a b ∨ a = f ∧ b = q) := by
  refine ⟨fun a b h2 => ?_, h.2.up (by simp; omega)⟩
  by_cases e : a = f ∧ b = q
  · obtain ⟨rfl, rfl⟩ := e
    rw [gu_s, hz]
  · rw [gu_n (by omega)]
    rcases h2 with h2 | h2
    · exact h.1 a b h2
    · exact absurd h2 e
theorem TK.cg {γ g : GG} {A : Nat → Int} {P P' : Nat → Nat → Prop} (h : TK γ g A P) (hp : ∀ a b, P' a b → P a b) : TK γ g A P' := ⟨fun a b q => h.1 a b (hp a b q), h.2⟩
def PK1 (j q i : Nat) : Prop := (q = 0 ∧ i = 0) ∨ (q = 5 ∧ i = 0) ∨ (q = 11 ∧ i = 0) ∨ (1 ≤ q ∧ q ≤ 4 ∧ i < j)
def PK2 (j q i : Nat) : Prop := (q = 0 ∧ i = 0) ∨ (q = 5 ∧ i = 0) ∨ (q = 11 ∧ i = 0) ∨ (1 ≤ q ∧ q ≤ 4 ∧ i < 12) ∨ (6 ≤ q ∧ q ≤ 10 ∧ i < j)
theorem pk1_s {j q i : Nat} (h : PK1 (j + 1) q i) : (((PK1 j q i ∨ q = 1 ∧ i = j) ∨ q = 2 ∧ i = j) ∨ q = 3 ∧ i = j) ∨ q = 4 ∧ i = j := by
  unfold PK1 at *
  by_cases e : i = j
  · rcases h with h | h | h | h
    · exact Or.inl (Or.inl (Or.inl (Or.inl (Or.inl h))))
    · exact Or.inl (Or.inl (Or.inl (Or.inl (Or.inr (Or.inl h)))))
    · exact Or.inl (Or.inl (Or.inl (Or.inl (Or.inr (Or.inr (Or.inl h))))))
    · rcases (show q = 1 ∨ q = 2 ∨ q = 3 ∨ q = 4 by omega) with e2 | e2 | e2 | e2
      · exact Or.inl (Or.inl (Or.inl (Or.inr ⟨e2, e⟩)))
      · exact Or.inl (Or.inl (Or.inr ⟨e2, e⟩))
      · exact Or.inl (Or.inr ⟨e2, e⟩)
      · exact Or.inr ⟨e2, e⟩
  · exact Or.inl (Or.inl (Or.inl (Or.inl (by omega))))
theorem pk2_s {j q i : Nat} (h : PK2 (j + 1) q i) : ((((PK2 j q i ∨ q = 6 ∧ i = j) ∨ q = 7 ∧ i = j) ∨ q = 8 ∧ i = j) ∨ q = 9 ∧ i = j) ∨ q = 10 ∧ i = j := by
  unfold PK2 at *
  by_cases e : i = j
  · by_cases e6 : 6 ≤ q ∧ q ≤ 10
    · rcases (show q = 6 ∨ q = 7 ∨ q = 8 ∨ q = 9 ∨ q = 10 by omega) with e2 | e2 | e2 | e2 | e2
      · exact Or.inl (Or.inl (Or.inl (Or.inl (Or.inr ⟨e2, e⟩))))
      · exact Or.inl (Or.inl (Or.inl (Or.inr ⟨e2, e⟩)))
      · exact Or.inl (Or.inl (Or.inr ⟨e2, e⟩))
      · exact Or.inl (Or.inr ⟨e2, e⟩)
      · exact Or.inr ⟨e2, e⟩
    · exact Or.inl (Or.inl (Or.inl (Or.inl (Or.inl (by omega)))))
  · exact Or.inl (Or.inl (Or.inl (Or.inl (Or.inl (by omega)))))
theorem pk12 {q i : Nat} (h : PK2 0 q i) : PK1 12 q i := by
  unfold PK1 PK2 at *
  omega
theorem pk0 {q i : Nat} (h : PK1 0 q i) : ((False ∨ q = 0 ∧ i = 0) ∨ q = 5 ∧ i = 0) ∨ q = 11 ∧ i = 0 := by
  unfold PK1 at h
  simp
  omega
section M12
variable {l : Launch} {E : EE}
theorem ct_takes (hE : EOk E) (hm : 438 ≤ E.nk) (γ : GG) {key f N : Nat} (hA : ArrK E 1 key 0 f N) (hkey : key < E.nk) (hf : f = 19 ∨ f = 21 ∨ f = 23) (hN : N < 2000) {a : Nat} (ha : a + 171 ≤ N) : Ct l yX8_takes cX8_takes 4 none E 100 16000 [.ref (E.ad 414), .ref (E.ad key), .int (iI (a : Int))] γ (fun v g => v = none ∧ TK γ g (fun i => γ 0 f (a + i)) (PK2 24)) 0 0 := by
  refine Ct.of hE (by decide) (Nat.le_of_ble_eq_true rfl) (fun Φ hLn hΦ F hfr hlo => ?_)
  subst hLn; subst hΦ
  have h414 := F.ok.1.2.2
  have hrc := F.rc
  have hrs := F.rs
  show Wg Φ 4 _ 0 0 0 [(0, _), (1, _), (2, _)] []
  refine w_rng (fun hR => ?_)
  have hbd : ∀ i, InR (γ 0 f i) := fun i => (hR 0 f i).1
  have rd : ∀ (g : GG) (P : Nat → Nat → Prop), TK γ g (fun i => γ 0 f (a + i)) P → g 0 f = γ 0 f := fun g P h => h.2.f f (by rcases hf with rfl | rfl | rfl <;> rfl)
  refine w_aload_n F dX8_takes_0 rfl rfl ?_
  refine w_aload_n F dX8_takes_1 rfl rfl ?_
  refine w_iload_n F dX8_takes_2 rfl ?_
  refine w_ialdN F hA (by omega) (by omega) (by omega) dX8_takes_3 ?_
  have k0 : TK γ γ (fun i => γ 0 f (a + i)) (fun _ _ => False) := ⟨fun _ _ h => h.elim, Off0.rf⟩
  have b0 := hbd a
  refine w_putF F (fM0 _) (by omega) rfl in_X8 tyX8 tyX8_ok nmX8 (by decide) (Or.inl q872) rfl rfl rfl (by first | assumption | exact inR0 | exact (hR _ _ _).1 | (constructor <;> omega)) (fun h => by cases h) (fun h => by cases h) dX8_takes_4 ?_
  have k1 := k0.up (f := 0) (q := 0) (z := γ 0 f a) (by omega) rfl
  refine w_aload_n F dX8_takes_7 rfl rfl ?_
  refine w_aload_n F dX8_takes_8 rfl rfl ?_
  refine w_iload_n F dX8_takes_9 rfl ?_
  refine w_iconst F dX8_takes_10 ?_
  refine w_iadd F dX8_takes_11 ?_
  refine w_top (z' := ((a + 1 : Nat) : Int)) rfl ?_
  refine w_ialdN F hA (by omega) (by omega) (by omega) dX8_takes_12 ?_
  refine w_top (z' := γ 0 f (a + 1)) (congrFun (rd _ _ k1) _) ?_
  have b1 := hbd (a + 1)
  refine w_putF F (fM5 _) (by omega) rfl in_X8 tyX8 tyX8_ok nmX8 (by decide) (Or.inl q877) rfl rfl rfl (by first | assumption | exact inR0 | exact (hR _ _ _).1 | (constructor <;> omega)) (fun h => by cases h) (fun h => by cases h) dX8_takes_13 ?_
  have k2 := k1.up (f := 5) (q := 0) (z := γ 0 f (a + 1)) (by omega) rfl
  refine w_aload_n F dX8_takes_16 rfl rfl ?_
  refine w_aload_n F dX8_takes_17 rfl rfl ?_
  refine w_iload_n F dX8_takes_18 rfl ?_
  refine w_iconst F dX8_takes_19 ?_
  refine w_iadd F dX8_takes_20 ?_
  refine w_top (z' := ((a + 2 : Nat) : Int)) rfl ?_
  refine w_ialdN F hA (by omega) (by omega) (by omega) dX8_takes_21 ?_
  refine w_top (z' := γ 0 f (a + 2)) (congrFun (rd _ _ k2) _) ?_
  have b2 := hbd (a + 2)
  refine w_putF F (fM11 _) (by omega) rfl in_X8 tyX8 tyX8_ok nmX8 (by decide) (Or.inl q883) rfl rfl rfl (by first | assumption | exact inR0 | exact (hR _ _ _).1 | (constructor <;> omega)) (fun h => by cases h) (fun h => by cases h) dX8_takes_22 ?_
  have k3 := k2.up (f := 11) (q := 0) (z := γ 0 f (a + 2)) (by omega) rfl
  refine w_iconst F dX8_takes_25 ?_
  refine w_istore_n F dX8_takes_26 (by decide) rfl (lv' := [(0, _), (1, _), (2, _), (3, _)]) rfl ?_
  have loop2 : ∀ (m j : Nat) (g : GG), j ≤ 24 → 24 - j < m → TK γ g (fun i => γ 0 f (a + i)) (PK2 j) → Wg Φ 4 g 0 0 96 [(0, .ref (Φ.E.ad 414)), (1, .ref (Φ.E.ad key)), (2, .int (iI (a : Int))), (3, .int (iI (j : Int)))] [] := by
    intro m
    induction m with
    | zero => intro j g h1 h2; omega
    | succ m ih =>
      intro j g h1 h2 h3
      refine w_iload_n F dX8_takes_96 rfl ?_
      refine w_bipush F dX8_takes_97 rfl ?_
      refine w_icmp_ge F (tgt := 179) dX8_takes_99 (by decide) (by first | assumption | exact inR0 | exact (hR _ _ _).1 | (constructor <;> omega)) (by first | assumption | exact inR0 | exact (hR _ _ _).1 | (constructor <;> omega)) (fun h => ?_) (fun h => ?_)
      · skip
        exact w_vret F (by omega) (by omega) (⟨rfl, (show j = 24 by omega) ▸ h3⟩) dX8_takes_179
      · have hj : j < 24 := by omega
        refine w_aload_n F dX8_takes_102 rfl rfl ?_
        refine w_get F (by omega) cell_mdO rfl in_X8 6 (by decide) (Or.inl q878) rfl dX8_takes_103 ?_
        refine w_iload_n F dX8_takes_106 rfl ?_
        refine w_aload_n F dX8_takes_107 rfl rfl ?_
        refine w_iload_n F dX8_takes_108 rfl ?_
        refine w_bipush F dX8_takes_109 rfl ?_
        refine w_iadd F dX8_takes_111 ?_
        refine w_iload_n F dX8_takes_112 rfl ?_
        refine w_iadd F dX8_takes_113 ?_
        refine w_top (z' := ((a + (51 + j) : Nat) : Int)) (by omega) ?_
        refine w_ialdN F hA (by omega) (by omega) (by omega) dX8_takes_114 ?_
        refine w_top (z' := γ 0 f (a + (51 + j))) (congrFun (rd _ _ h3) _) ?_
        have c0 := hbd (a + (51 + j))
        first | refine w_iastN F (aM6 _) (by omega) (by decide) rfl rfl (by first | assumption | exact inR0 | exact (hR _ _ _).1 | (constructor <;> omega)) (by omega) dX8_takes_115 ?_ | refine w_iast F (aM6 _) (by omega) (by decide) rfl rfl (by first | assumption | exact inR0 | exact (hR _ _ _).1 | (constructor <;> omega)) (by omega) (by omega) dX8_takes_115 ?_
        have t0 := h3.up (f := 6) (q := j) (z := γ 0 f (a + (51 + j))) (by omega) rfl
        refine w_aload_n F dX8_takes_116 rfl rfl ?_
        refine w_get F (by omega) cell_mdO rfl in_X8 7 (by decide) (Or.inl q879) rfl dX8_takes_117 ?_
        refine w_iload_n F dX8_takes_120 rfl ?_
        refine w_aload_n F dX8_takes_121 rfl rfl ?_
        refine w_iload_n F dX8_takes_122 rfl ?_
        refine w_bipush F dX8_takes_123 rfl ?_
        refine w_iadd F dX8_takes_125 ?_
        refine w_iload_n F dX8_takes_126 rfl ?_
        refine w_iadd F dX8_takes_127 ?_
        refine w_top (z' := ((a + (75 + j) : Nat) : Int)) (by omega) ?_
        refine w_ialdN F hA (by omega) (by omega) (by omega) dX8_takes_128 ?_
        refine w_top (z' := γ 0 f (a + (75 + j))) (congrFun (rd _ _ t0) _) ?_
        have c1 := hbd (a + (75 + j))
        first | refine w_iastN F (aM7 _) (by omega) (by decide) rfl rfl (by first | assumption | exact inR0 | exact (hR _ _ _).1 | (constructor <;> omega)) (by omega) dX8_takes_129 ?_ | refine w_iast F (aM7 _) (by omega) (by decide) rfl rfl (by first | assumption | exact inR0 | exact (hR _ _ _).1 | (constructor <;> omega)) (by omega) (by omega) dX8_takes_129 ?_
        have t1 := t0.up (f := 7) (q := j) (z := γ 0 f (a + (75 + j))) (by omega) rfl
        refine w_aload_n F dX8_takes_130 rfl rfl ?_
        refine w_get F (by omega) cell_mdO rfl in_X8 8 (by decide) (Or.inl q880) rfl dX8_takes_131 ?_
        refine w_iload_n F dX8_takes_134 rfl ?_
        refine w_aload_n F dX8_takes_135 rfl rfl ?_
        refine w_iload_n F dX8_takes_136 rfl ?_
        refine w_bipush F dX8_takes_137 rfl ?_
        refine w_iadd F dX8_takes_139 ?_
        refine w_iload_n F dX8_takes_140 rfl ?_
        refine w_iadd F dX8_takes_141 ?_
        refine w_top (z' := ((a + (99 + j) : Nat) : Int)) (by omega) ?_
        refine w_ialdN F hA (by omega) (by omega) (by omega) dX8_takes_142 ?_
        refine w_top (z' := γ 0 f (a + (99 + j))) (congrFun (rd _ _ t1) _) ?_
        have c2 := hbd (a + (99 + j))
        first | refine w_iastN F (aM8 _) (by omega) (by decide) rfl rfl (by first | assumption | exact inR0 | exact (hR _ _ _).1 | (constructor <;> omega)) (by omega) dX8_takes_143 ?_ | refine w_iast F (aM8 _) (by omega) (by decide) rfl rfl (by first | assumption | exact inR0 | exact (hR _ _ _).1 | (constructor <;> omega)) (by omega) (by omega) dX8_takes_143 ?_
        have t2 := t1.up (f := 8) (q := j) (z := γ 0 f (a + (99 + j))) (by omega) rfl
        refine w_aload_n F dX8_takes_144 rfl rfl ?_
        refine w_get F (by omega) cell_mdO rfl in_X8 9 (by decide) (Or.inl q881) rfl dX8_takes_145 ?_
        refine w_iload_n F dX8_takes_148 rfl ?_
        refine w_aload_n F dX8_takes_149 rfl rfl ?_
        refine w_iload_n F dX8_takes_150 rfl ?_
        refine w_bipush F dX8_takes_151 rfl ?_
        refine w_iadd F dX8_takes_153 ?_
        refine w_iload_n F dX8_takes_154 rfl ?_
        refine w_iadd F dX8_takes_155 ?_
        refine w_top (z' := ((a + (123 + j) : Nat) : Int)) (by omega) ?_
        refine w_ialdN F hA (by omega) (by omega) (by omega) dX8_takes_156 ?_
        refine w_top (z' := γ 0 f (a + (123 + j))) (congrFun (rd _ _ t2) _) ?_
        have c3 := hbd (a + (123 + j))
        first | refine w_iastN F (aM9 _) (by omega) (by decide) rfl rfl (by first | assumption | exact inR0 | exact (hR _ _ _).1 | (constructor <;> omega)) (by omega) dX8_takes_157 ?_ | refine w_iast F (aM9 _) (by omega) (by decide) rfl rfl (by first | assumption | exact inR0 | exact (hR _ _ _).1 | (constructor <;> omega)) (by omega) (by omega) dX8_takes_157 ?_
        have t3 := t2.up (f := 9) (q := j) (z := γ 0 f (a + (123 + j))) (by omega) rfl
        refine w_aload_n F dX8_takes_158 rfl rfl ?_
        refine w_get F (by omega) cell_mdO rfl in_X8 10 (by decide) (Or.inl q882) rfl dX8_takes_159 ?_
        refine w_iload_n F dX8_takes_162 rfl ?_
        refine w_aload_n F dX8_takes_163 rfl rfl ?_
        refine w_iload_n F dX8_takes_164 rfl ?_
        refine w_sipush F dX8_takes_165 rfl ?_
        refine w_iadd F dX8_takes_168 ?_
        refine w_iload_n F dX8_takes_169 rfl ?_
        refine w_iadd F dX8_takes_170 ?_
        refine w_top (z' := ((a + (147 + j) : Nat) : Int)) (by omega) ?_
        refine w_ialdN F hA (by omega) (by omega) (by omega) dX8_takes_171 ?_
        refine w_top (z' := γ 0 f (a + (147 + j))) (congrFun (rd _ _ t3) _) ?_
        have c4 := hbd (a + (147 + j))
        first | refine w_iastN F (aM10 _) (by omega) (by decide) rfl rfl (by first | assumption | exact inR0 | exact (hR _ _ _).1 | (constructor <;> omega)) (by omega) dX8_takes_172 ?_ | refine w_iast F (aM10 _) (by omega) (by decide) rfl rfl (by first | assumption | exact inR0 | exact (hR _ _ _).1 | (constructor <;> omega)) (by omega) (by omega) dX8_takes_172 ?_
        have t4 := t3.up (f := 10) (q := j) (z := γ 0 f (a + (147 + j))) (by omega) rfl
        refine w_iinc F dX8_takes_173 rfl (by decide) rfl (lv' := [(0, _), (1, _), (2, _), (3, _)]) rfl ?_
        refine w_goto F (tgt := 96) dX8_takes_176 (by decide) ?_
        exact ih (j + 1) _ (by omega) (by omega) (t4.cg (fun q i => pk2_s))
  have loop1 : ∀ (m j : Nat) (g : GG), j ≤ 12 → 12 - j < m → TK γ g (fun i => γ 0 f (a + i)) (PK1 j) → Wg Φ 4 g 0 0 27 [(0, .ref (Φ.E.ad 414)), (1, .ref (Φ.E.ad key)), (2, .int (iI (a : Int))), (3, .int (iI (j : Int)))] [] := by
    intro m
    induction m with
    | zero => intro j g h1 h2; omega
    | succ m ih =>
      intro j g h1 h2 h3
      refine w_iload_n F dX8_takes_27 rfl ?_
      refine w_bipush F dX8_takes_28 rfl ?_
      refine w_icmp_ge F (tgt := 94) dX8_takes_30 (by decide) (by first | assumption | exact inR0 | exact (hR _ _ _).1 | (constructor <;> omega)) (by first | assumption | exact inR0 | exact (hR _ _ _).1 | (constructor <;> omega)) (fun h => ?_) (fun h => ?_)
      · refine w_iconst F dX8_takes_94 ?_
        refine w_istore_n F dX8_takes_95 (by decide) rfl (lv' := [(0, _), (1, _), (2, _), (3, _)]) rfl ?_
        exact loop2 25 0 g (by omega) (by omega) (((show j = 12 by omega) ▸ h3).cg (fun q i => pk12))
      · have hj : j < 12 := by omega
        refine w_aload_n F dX8_takes_33 rfl rfl ?_
        refine w_get F (by omega) cell_mdO rfl in_X8 1 (by decide) (Or.inl q873) rfl dX8_takes_34 ?_
        refine w_iload_n F dX8_takes_37 rfl ?_
        refine w_aload_n F dX8_takes_38 rfl rfl ?_
        refine w_iload_n F dX8_takes_39 rfl ?_
        refine w_iconst F dX8_takes_40 ?_
        refine w_iadd F dX8_takes_41 ?_
        refine w_iload_n F dX8_takes_42 rfl ?_
        refine w_iadd F dX8_takes_43 ?_
        refine w_top (z' := ((a + (3 + j) : Nat) : Int)) (by omega) ?_
        refine w_ialdN F hA (by omega) (by omega) (by omega) dX8_takes_44 ?_
        refine w_top (z' := γ 0 f (a + (3 + j))) (congrFun (rd _ _ h3) _) ?_
        have c0 := hbd (a + (3 + j))
        first | refine w_iastN F (aM1 _) (by omega) (by decide) rfl rfl (by first | assumption | exact inR0 | exact (hR _ _ _).1 | (constructor <;> omega)) (by omega) dX8_takes_45 ?_ | refine w_iast F (aM1 _) (by omega) (by decide) rfl rfl (by first | assumption | exact inR0 | exact (hR _ _ _).1 | (constructor <;> omega)) (by omega) (by omega) dX8_takes_45 ?_
        have t0 := h3.up (f := 1) (q := j) (z := γ 0 f (a + (3 + j))) (by omega) rfl
        refine w_aload_n F dX8_takes_46 rfl rfl ?_
        refine w_get F (by omega) cell_mdO rfl in_X8 2 (by decide) (Or.inl q874) rfl dX8_takes_47 ?_
        refine w_iload_n F dX8_takes_50 rfl ?_
        refine w_aload_n F dX8_takes_51 rfl rfl ?_
        refine w_iload_n F dX8_takes_52 rfl ?_
        refine w_bipush F dX8_takes_53 rfl ?_
        refine w_iadd F dX8_takes_55 ?_
        refine w_iload_n F dX8_takes_56 rfl ?_
        refine w_iadd F dX8_takes_57 ?_
        refine w_top (z' := ((a + (15 + j) : Nat) : Int)) (by omega) ?_
        refine w_ialdN F hA (by omega) (by omega) (by omega) dX8_takes_58 ?_
        refine w_top (z' := γ 0 f (a + (15 + j))) (congrFun (rd _ _ t0) _) ?_
        have c1 := hbd (a + (15 + j))
        first | refine w_iastN F (aM2 _) (by omega) (by decide) rfl rfl (by first | assumption | exact inR0 | exact (hR _ _ _).1 | (constructor <;> omega)) (by omega) dX8_takes_59 ?_ | refine w_iast F (aM2 _) (by omega) (by decide) rfl rfl (by first | assumption | exact inR0 | exact (hR _ _ _).1 | (constructor <;> omega)) (by omega) (by omega) dX8_takes_59 ?_
        have t1 := t0.up (f := 2) (q := j) (z := γ 0 f (a + (15 + j))) (by omega) rfl
        refine w_aload_n F dX8_takes_60 rfl rfl ?_
        refine w_get F (by omega) cell_mdO rfl in_X8 3 (by decide) (Or.inl q875) rfl dX8_takes_61 ?_
        refine w_iload_n F dX8_takes_64 rfl ?_
        refine w_aload_n F dX8_takes_65 rfl rfl ?_
        refine w_iload_n F dX8_takes_66 rfl ?_
        refine w_bipush F dX8_takes_67 rfl ?_
        refine w_iadd F dX8_takes_69 ?_
        refine w_iload_n F dX8_takes_70 rfl ?_
        refine w_iadd F dX8_takes_71 ?_
        refine w_top (z' := ((a + (27 + j) : Nat) : Int)) (by omega) ?_
        refine w_ialdN F hA (by omega) (by omega) (by omega) dX8_takes_72 ?_
        refine w_top (z' := γ 0 f (a + (27 + j))) (congrFun (rd _ _ t1) _) ?_
        have c2 := hbd (a + (27 + j))
        first | refine w_iastN F (aM3 _) (by omega) (by decide) rfl rfl (by first | assumption | exact inR0 | exact (hR _ _ _).1 | (constructor <;> omega)) (by omega) dX8_takes_73 ?_ | refine w_iast F (aM3 _) (by omega) (by decide) rfl rfl (by first | assumption | exact inR0 | exact (hR _ _ _).1 | (constructor <;> omega)) (by omega) (by omega) dX8_takes_73 ?_
        have t2 := t1.up (f := 3) (q := j) (z := γ 0 f (a + (27 + j))) (by omega) rfl
        refine w_aload_n F dX8_takes_74 rfl rfl ?_
        refine w_get F (by omega) cell_mdO rfl in_X8 4 (by decide) (Or.inl q876) rfl dX8_takes_75 ?_
        refine w_iload_n F dX8_takes_78 rfl ?_
        refine w_aload_n F dX8_takes_79 rfl rfl ?_
        refine w_iload_n F dX8_takes_80 rfl ?_
        refine w_bipush F dX8_takes_81 rfl ?_
        refine w_iadd F dX8_takes_83 ?_
        refine w_iload_n F dX8_takes_84 rfl ?_
        refine w_iadd F dX8_takes_85 ?_
        refine w_top (z' := ((a + (39 + j) : Nat) : Int)) (by omega) ?_
        refine w_ialdN F hA (by omega) (by omega) (by omega) dX8_takes_86 ?_
        refine w_top (z' := γ 0 f (a + (39 + j))) (congrFun (rd _ _ t2) _) ?_
        have c3 := hbd (a + (39 + j))
        first | refine w_iastN F (aM4 _) (by omega) (by decide) rfl rfl (by first | assumption | exact inR0 | exact (hR _ _ _).1 | (constructor <;> omega)) (by omega) dX8_takes_87 ?_ | refine w_iast F (aM4 _) (by omega) (by decide) rfl rfl (by first | assumption | exact inR0 | exact (hR _ _ _).1 | (constructor <;> omega)) (by omega) (by omega) dX8_takes_87 ?_
        have t3 := t2.up (f := 4) (q := j) (z := γ 0 f (a + (39 + j))) (by omega) rfl
        refine w_iinc F dX8_takes_88 rfl (by decide) rfl (lv' := [(0, _), (1, _), (2, _), (3, _)]) rfl ?_
        refine w_goto F (tgt := 27) dX8_takes_91 (by decide) ?_
        exact ih (j + 1) _ (by omega) (by omega) (t3.cg (fun q i => pk1_s))
  exact loop1 13 0 _ (by omega) (by omega) (k3.cg (fun q i => pk0))
end M12
