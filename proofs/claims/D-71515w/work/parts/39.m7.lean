/-! the model: a job comes -/
section M7
variable {l : Launch} {E : EE}
theorem ct_comes (hE : EOk E) (hm : 438 ≤ E.nk) (γ : GG) {b j : Nat} {T : Nat → Nat → Int} {ot : Option TT} {k s d ln : Int} (hJ : JOk b T) (hot : match ot with | none => ME (γ 0) ∧ b = 0 | some t => MV (γ 0) b T t ∧ TOk b t) (hj : j < 12) (hjf : b.testBit j = false) (hjm : ∀ i, i < j → b.testBit i = true)
    (hk : 0 ≤ k ∧ k ≤ 3) (hs : 0 ≤ s ∧ s ≤ 99) (hd : 0 ≤ d ∧ d ≤ 99) (hln : 1 ≤ ln ∧ ln ≤ 9) (hlv : 0 ≤ γ 0 11 0 ∧ γ 0 11 0 < 2000000000) :
    Ct l yX8_comes cX8_comes 11 (some .int) E 500 32000 [.ref (E.ad 414), .int (iI k), .int (iI s), .int (iI d), .int (iI ln)] γ (fun v g => v = some (.int (iI (j : Int))) ∧ MV (g 0) (b ||| 2 ^ j) (upT T j k s d ln) (addO (keyT (upT T j k s d ln)) j ot).1 ∧ g 0 11 0 = γ 0 11 0 + (addO (keyT (upT T j k s d ln)) j ot).2 ∧ Off0 [0, 1, 2, 3, 4, 5, 6, 7, 8, 9, 10, 11, 12, 13, 14, 15] γ g) 0 0 := by
  refine Ct.of hE (by decide) (Nat.le_of_ble_eq_true rfl) (fun Φ hLn hΦ F hfr hlo => ?_)
  subst hLn; subst hΦ
  have h414 := F.ok.1.2.2
  have hrc := F.rc
  have hrs := F.rs
  show Wg Φ 11 _ 0 0 0 [(0, _), (1, _), (2, _), (3, _), (4, _)] []
  refine w_rng (fun hR => ?_)
  have hb : γ 0 0 0 = (b : Int) := by
    cases ot with
    | none => rw [hot.1.1, hot.2]; rfl
    | some t => exact hot.1.1
  have hb2 := hJ.1
  have hor := or_lt hb2 hj
  have K : Wg Φ 11 γ 0 0 21 [(0, .ref (Φ.E.ad 414)), (1, .int (iI k)), (2, .int (iI s)), (3, .int (iI d)), (4, .int (iI ln)), (5, .int (iI (j : Int)))] [] := by
    refine w_aload_n F dX8_comes_21 rfl rfl ?_
    refine w_get F (by omega) cell_mdO rfl in_X8 1 (by decide) (Or.inl q873) rfl dX8_comes_22 ?_
    refine w_iload F dX8_comes_25 rfl ?_
    refine w_iload_n F dX8_comes_27 rfl ?_
    first | refine w_iastN F (aM1 _) (by omega) (by decide) rfl rfl (by first | assumption | exact inR0 | exact (hR _ _ _).1 | (constructor <;> omega)) (by omega) dX8_comes_28 ?_ | refine w_iast F (aM1 _) (by omega) (by decide) rfl rfl (by first | assumption | exact inR0 | exact (hR _ _ _).1 | (constructor <;> omega)) (by omega) (by omega) dX8_comes_28 ?_
    refine w_aload_n F dX8_comes_29 rfl rfl ?_
    refine w_get F (by omega) cell_mdO rfl in_X8 2 (by decide) (Or.inl q874) rfl dX8_comes_30 ?_
    refine w_iload F dX8_comes_33 rfl ?_
    refine w_iload_n F dX8_comes_35 rfl ?_
    first | refine w_iastN F (aM2 _) (by omega) (by decide) rfl rfl (by first | assumption | exact inR0 | exact (hR _ _ _).1 | (constructor <;> omega)) (by omega) dX8_comes_36 ?_ | refine w_iast F (aM2 _) (by omega) (by decide) rfl rfl (by first | assumption | exact inR0 | exact (hR _ _ _).1 | (constructor <;> omega)) (by omega) (by omega) dX8_comes_36 ?_
    refine w_aload_n F dX8_comes_37 rfl rfl ?_
    refine w_get F (by omega) cell_mdO rfl in_X8 3 (by decide) (Or.inl q875) rfl dX8_comes_38 ?_
    refine w_iload F dX8_comes_41 rfl ?_
    refine w_iload_n F dX8_comes_43 rfl ?_
    first | refine w_iastN F (aM3 _) (by omega) (by decide) rfl rfl (by first | assumption | exact inR0 | exact (hR _ _ _).1 | (constructor <;> omega)) (by omega) dX8_comes_44 ?_ | refine w_iast F (aM3 _) (by omega) (by decide) rfl rfl (by first | assumption | exact inR0 | exact (hR _ _ _).1 | (constructor <;> omega)) (by omega) (by omega) dX8_comes_44 ?_
    refine w_aload_n F dX8_comes_45 rfl rfl ?_
    refine w_get F (by omega) cell_mdO rfl in_X8 4 (by decide) (Or.inl q876) rfl dX8_comes_46 ?_
    refine w_iload F dX8_comes_49 rfl ?_
    refine w_iload F dX8_comes_51 rfl ?_
    first | refine w_iastN F (aM4 _) (by omega) (by decide) rfl rfl (by first | assumption | exact inR0 | exact (hR _ _ _).1 | (constructor <;> omega)) (by omega) dX8_comes_53 ?_ | refine w_iast F (aM4 _) (by omega) (by decide) rfl rfl (by first | assumption | exact inR0 | exact (hR _ _ _).1 | (constructor <;> omega)) (by omega) (by omega) dX8_comes_53 ?_
    refine w_aload_n F dX8_comes_54 rfl rfl ?_
    refine w_dup F dX8_comes_55 rfl ?_
    refine w_getF F (fM0 _) (by omega) rfl in_X8 (by decide) (Or.inl q872) dX8_comes_56 ?_
    refine w_top (z' := (b : Int)) (by simp [gu]; exact hb) ?_
    refine w_iconst F dX8_comes_59 ?_
    refine w_iload F dX8_comes_60 rfl ?_
    refine w_ishl1 F (by omega) dX8_comes_62 ?_
    refine w_ior F dX8_comes_63 ?_
    refine w_putF F (fM0 _) (by omega) rfl in_X8 tyX8 tyX8_ok nmX8 (by decide) (Or.inl q872) rfl rfl rfl (by first | assumption | exact inR0 | exact (hR _ _ _).1 | (constructor <;> omega)) (fun h => by cases h) (fun h => by cases h) dX8_comes_64 ?_
    generalize hg2 : gu (gu (gu (gu (gu γ 0 1 j k) 0 2 j s) 0 3 j d) 0 4 j ln) 0 0 0 ((b ||| 2 ^ j : Nat) : Int) = g2
    have O2 : Off0 [0, 1, 2, 3, 4] γ g2 := by
      rw [← hg2]
      exact ((((Off0.rf.up (by decide)).up (by decide)).up (by decide)).up (by decide)).up (by decide)
    have v0 : g2 0 0 0 = ((b ||| 2 ^ j : Nat) : Int) := by rw [← hg2, gu_s]
    have vT : ∀ i, (b ||| 2 ^ j).testBit i = true → ∀ f, 1 ≤ f → f ≤ 4 → g2 0 f i = upT T j k s d ln f i := by
      intro i hi f h1 h4
      by_cases e : i = j
      · subst e
        rw [← hg2]
        rcases (show f = 1 ∨ f = 2 ∨ f = 3 ∨ f = 4 by omega) with rfl | rfl | rfl | rfl <;> simp [gu, upT]
      · have h5 : b.testBit i = true := by
          rw [or_bit] at hi
          simp at hi
          rcases hi with q | q
          · exact q
          · exact absurd q.symm e
        rw [← hg2, gu_n (by omega), gu_n (by omega), gu_n (by omega), gu_n (by omega), gu_n (by omega)]
        unfold upT
        rw [if_neg e]
        cases ot with
        | none => rw [hot.2] at h5; simp at h5
        | some t => exact hot.1.2.2 i h5 f h1 h4
    have vj : g2 0 2 j = s := by rw [← hg2]; simp [gu]
    clear hg2
    refine w_rng (fun hR => ?_)
    cases ot with
    | none =>
      obtain ⟨⟨m1, m2, m3⟩, m4⟩ := hot
      refine w_aload_n F dX8_comes_67 rfl rfl ?_
      refine w_getF F (fM5 _) (by omega) rfl in_X8 (by decide) (Or.inl q877) dX8_comes_68 ?_
      refine w_top (z' := -4) (by rw [O2.f 5 rfl]; exact m2) ?_
      refine w_bipush F dX8_comes_71 rfl ?_
      refine w_icmp_ne F (tgt := 89) dX8_comes_73 (by decide) (by first | assumption | exact inR0 | exact (hR _ _ _).1 | (constructor <;> omega)) (by first | assumption | exact inR0 | exact (hR _ _ _).1 | (constructor <;> omega)) (fun h => ?_) (fun h => ?_)
      · exact absurd rfl h
      · refine w_aload_n F dX8_comes_76 rfl rfl ?_
        refine w_aload_n F dX8_comes_77 rfl rfl ?_
        refine w_iload F dX8_comes_78 rfl ?_
        have u2 : UsM (g2 0) [] := m3.off O2 rfl
        refine w_callV F (As := [_]) (ct_newLeaf hE hm g2 hj (u2.free (by simp))) (lw_V q833 q835 qs36 q88 q836) md_X8_newLeaf (by omega) cell_mdO rfl rfl rfl rfl (Nat.le_of_ble_eq_true rfl) dX8_comes_80 ⟨by omega, by omega⟩ ⟨by omega, by omega⟩ ?_
        rintro _ g3 ⟨x, hx, hxf, rfl, hg3⟩
        refine w_putF F (fM5 _) (by omega) rfl in_X8 tyX8 tyX8_ok nmX8 (by decide) (Or.inl q877) rfl rfl rfl (by first | assumption | exact inR0 | exact (hR _ _ _).1 | (constructor <;> omega)) (fun h => by cases h) (fun h => by cases h) dX8_comes_83 ?_
        refine w_iload F dX8_comes_86 rfl ?_
        have o3 : Off0 [6, 7, 8, 9, 10] g2 g3 := by rw [← hg3]; exact lfM_off g2 x j
        have o4 : Off0 [5] g3 (gu g3 0 5 0 (x : Int)) := Off0.rf.up (by decide)
        have r3 : RepM (g3 0) (.leaf j) x [x] := by rw [← hg3]; exact lfM_rep hx hj
        have u3 : UsM (g3 0) [x] := by rw [← hg3]; exact u2.nw hx hxf
        exact w_iret F (by omega) (by omega) (⟨rfl, ⟨by rw [o4.f 0 rfl, o3.f 0 rfl]; exact v0, ⟨x, [x], gu_s _ _ _ _ _, r3.off o4 rfl, u3.off o4 rfl⟩, fun i hi f h1 h4 => by rw [gu_f (by omega), o3 0 f (by simp; omega)]; exact vT i hi f h1 h4⟩, by rw [o4.f 11 rfl, o3.f 11 rfl, O2.f 11 rfl]; simp [addO], ((O2.mono (by decide)).tr (o3.mono (by decide))).tr (o4.mono (by decide))⟩) dX8_comes_88
    | some t =>
      obtain ⟨⟨m1, ⟨r, ns, m2, m3, m4⟩, m5⟩, hT⟩ := hot
      have hjn : j ∉ tl t := fun q => by rw [(hT.1 j).mp q] at hjf; cases hjf
      have hlen : (tl t).length + 1 ≤ 12 := by
        have := nd_len 12 (j :: tl t) (List.nodup_cons.mpr ⟨hjn, hT.2⟩) (fun z hz => by
          rcases List.mem_cons.mp hz with e | e
          · rw [e]; exact hj
          · exact tb12 hb2 ((hT.1 z).mp e))
        simpa using this
      have hnsl : ns.length + 1 = 2 * (tl t).length := by rw [m3.len]; exact nn_tl t
      have vS : ∀ i ∈ tl t, g2 0 2 i = γ 0 2 i ∧ 0 ≤ g2 0 2 i ∧ g2 0 2 i ≤ 99 := by
        intro i hi
        have h5 := (hT.1 i).mp hi
        have e : i ≠ j := fun e => hjn (by rw [← e]; exact hi)
        have h6 := vT i (by rw [or_bit, h5]; rfl) 2 (by omega) (by omega)
        have h7 : upT T j k s d ln 2 i = T 2 i := by unfold upT; rw [if_neg e]
        have h8 := m5 i h5 2 (by omega) (by omega)
        have h9 := (hJ.2 i h5).2.1
        rw [h7] at h6
        rw [h6, h8]
        exact ⟨rfl, h9⟩
      have r2 : RepM (g2 0) t r ns := m3.cong (fun y hy => ⟨by rw [O2.f 6 rfl], by rw [O2.f 7 rfl], by rw [O2.f 8 rfl], by rw [O2.f 9 rfl], by rw [O2.f 10 rfl]⟩) (fun i hi => (vS i hi).1)
      have u2 : UsM (g2 0) ns := m4.off O2 rfl
      have hκj : keyT (upT T j k s d ln) j = (16 * s + j).toNat := by unfold keyT upT; simp
      have hκ : ∀ i ∈ tl t, keyT (upT T j k s d ln) i = (16 * g2 0 2 i + i).toNat := by
        intro i hi
        have h5 := (hT.1 i).mp hi
        rw [vT i (by rw [or_bit, h5]; rfl) 2 (by omega) (by omega)]
        rfl
      have hrl := r2.lt
      have fin : ∀ (x q : Nat) (ctx : List FrT) (nu : List Nat), RepM (g2 0) (.leaf q) x nu → CtxM (g2 0) x ctx → UsM (g2 0) (nu ++ cn ctx) → (nu ++ cn ctx).length + 1 = 2 * (tl t).length → plug ctx (.leaf q) = t → Pth (keyT (upT T j k s d ln) j) ctx → rootC x ctx = r → Wg Φ 11 g2 0 0 149 [(0, .ref (Φ.E.ad 414)), (1, .int (iI k)), (2, .int (iI s)), (3, .int (iI d)), (4, .int (iI ln)), (5, .int (iI (j : Int))), (6, .int (iI (x : Int)))] [] := by
        intro x q ctx nu hr hc hu hul hpl hpth hroot
        obtain ⟨e1, e2, e3, e4, e5, e6, e7⟩ := id hr
        have hqt : q ∈ tl t := by rw [← hpl]; exact mem_plug (by simp [tl])
        have hqs := vS q hqt
        have hκq := hκ q hqt
        have two : ∀ (o1 o2 : Nat), (o1 = j ∧ o2 = q ∨ o1 = q ∧ o2 = j) → insT (keyT (upT T j k s d ln)) j (.leaf q) = .branch (keyT (upT T j k s d ln) o1) (.leaf o1) (.leaf o2) → ∀ (xa xb : Nat) (g3 g4 : GG), lfM g2 xa o1 = g3 → lfM g3 xb o2 = g4 → xa < 24 → g2 0 6 xa = -2 → xb < 24 → g3 0 6 xb = -2 → ∀ bb : Int, Wg Φ 11 g4 0 0 211 [(0, .ref (Φ.E.ad 414)), (1, .int (iI k)), (2, .int (iI s)), (3, .int (iI d)), (4, .int (iI ln)), (5, .int (iI (j : Int))), (6, .int (iI (x : Int))), (7, .int (iI (q : Int))), (8, .int (iI bb)), (9, .int (iI (xa : Int))), (10, .int (iI (xb : Int)))] [] := by
          intro o1 o2 ho hins xa xb g3 g4 hg3 hg4 hxa hxaf hxb hxbf bb
          have ho1 : o1 < 12 ∧ 0 ≤ g2 0 2 o1 ∧ g2 0 2 o1 ≤ 99 := by rcases ho with ⟨e, -⟩ | ⟨e, -⟩ <;> rw [e] <;> first | exact ⟨e7, hqs.2⟩ | exact ⟨hj, by rw [vj]; exact hs⟩
          have ho2 : o2 < 12 := by rcases ho with ⟨-, e⟩ | ⟨-, e⟩ <;> rw [e] <;> first | exact e7 | exact hj
          have o3 : Off0 [6, 7, 8, 9, 10] g2 g3 := by rw [← hg3]; exact lfM_off g2 xa o1
          have o4 : Off0 [6, 7, 8, 9, 10] g3 g4 := by rw [← hg4]; exact lfM_off g3 xb o2
          have u3 : UsM (g3 0) (xa :: (nu ++ cn ctx)) := by rw [← hg3]; exact hu.nw hxa hxaf
          have u4 : UsM (g4 0) (xb :: xa :: (nu ++ cn ctx)) := by rw [← hg4]; exact u3.nw hxb hxbf
          have nd := u4.1
          have hxin : x ∈ nu ++ cn ctx := by rw [e1]; simp
          have hxxa : x ≠ xa := fun e => by rw [← e] at nd; simp [hxin] at nd
          have hxxb : x ≠ xb := fun e => by rw [← e] at nd; simp [e1] at nd
          have hab : xa ≠ xb := fun e => by rw [e] at nd; simp at nd
          have a4 : ∀ z, z ≠ xa → z ≠ xb → ∀ f, g4 0 f z = g2 0 f z := fun z h1 h2 f => by rw [← hg4, lfM_at h2, ← hg3, lfM_at h1]
          have s9 : g4 0 9 xa = g2 0 2 o1 := by rw [← hg4, lfM_at hab, ← hg3, lfM_9]
          have s10 : g4 0 10 xa = o1 := by rw [← hg4, lfM_at hab, ← hg3, lfM_10]
          refine w_rng (fun hR => ?_)
          refine w_aload_n F dX8_comes_211 rfl rfl ?_
          refine w_get F (by omega) cell_mdO rfl in_X8 6 (by decide) (Or.inl q878) rfl dX8_comes_212 ?_
          refine w_iload F dX8_comes_215 rfl ?_
          refine w_iload F dX8_comes_217 rfl ?_
          first | refine w_iastN F (aM6 _) (by omega) (by decide) rfl rfl (by first | assumption | exact inR0 | exact (hR _ _ _).1 | (constructor <;> omega)) (by omega) dX8_comes_219 ?_ | refine w_iast F (aM6 _) (by omega) (by decide) rfl rfl (by first | assumption | exact inR0 | exact (hR _ _ _).1 | (constructor <;> omega)) (by omega) (by omega) dX8_comes_219 ?_
          refine w_aload_n F dX8_comes_220 rfl rfl ?_
          refine w_get F (by omega) cell_mdO rfl in_X8 7 (by decide) (Or.inl q879) rfl dX8_comes_221 ?_
          refine w_iload F dX8_comes_224 rfl ?_
          refine w_iload F dX8_comes_226 rfl ?_
          first | refine w_iastN F (aM7 _) (by omega) (by decide) rfl rfl (by first | assumption | exact inR0 | exact (hR _ _ _).1 | (constructor <;> omega)) (by omega) dX8_comes_228 ?_ | refine w_iast F (aM7 _) (by omega) (by decide) rfl rfl (by first | assumption | exact inR0 | exact (hR _ _ _).1 | (constructor <;> omega)) (by omega) (by omega) dX8_comes_228 ?_
          refine w_aload_n F dX8_comes_229 rfl rfl ?_
          refine w_get F (by omega) cell_mdO rfl in_X8 9 (by decide) (Or.inl q881) rfl dX8_comes_230 ?_
          refine w_iload F dX8_comes_233 rfl ?_
          refine w_aload_n F dX8_comes_235 rfl rfl ?_
          refine w_get F (by omega) cell_mdO rfl in_X8 9 (by decide) (Or.inl q881) rfl dX8_comes_236 ?_
          refine w_iload F dX8_comes_239 rfl ?_
          first | refine w_ialdN F (aM9 _) (by omega) (by decide) (by omega) dX8_comes_241 ?_ | refine w_iald F (aM9 _) (by omega) (by decide) (by omega) (by omega) dX8_comes_241 ?_
          refine w_top (z' := g2 0 2 o1) (by rw [gu_f (by decide), gu_f (by decide)]; exact s9) ?_
          first | refine w_iastN F (aM9 _) (by omega) (by decide) rfl rfl (by first | assumption | exact inR0 | exact (hR _ _ _).1 | (constructor <;> omega)) (by omega) dX8_comes_242 ?_ | refine w_iast F (aM9 _) (by omega) (by decide) rfl rfl (by first | assumption | exact inR0 | exact (hR _ _ _).1 | (constructor <;> omega)) (by omega) (by omega) dX8_comes_242 ?_
          refine w_aload_n F dX8_comes_243 rfl rfl ?_
          refine w_get F (by omega) cell_mdO rfl in_X8 10 (by decide) (Or.inl q882) rfl dX8_comes_244 ?_
          refine w_iload F dX8_comes_247 rfl ?_
          refine w_aload_n F dX8_comes_249 rfl rfl ?_
          refine w_get F (by omega) cell_mdO rfl in_X8 10 (by decide) (Or.inl q882) rfl dX8_comes_250 ?_
          refine w_iload F dX8_comes_253 rfl ?_
          first | refine w_ialdN F (aM10 _) (by omega) (by decide) (by omega) dX8_comes_255 ?_ | refine w_iald F (aM10 _) (by omega) (by decide) (by omega) (by omega) dX8_comes_255 ?_
          refine w_top (z' := (o1 : Int)) (by rw [gu_f (by decide), gu_f (by decide), gu_f (by decide)]; exact s10) ?_
          first | refine w_iastN F (aM10 _) (by omega) (by decide) rfl rfl (by first | assumption | exact inR0 | exact (hR _ _ _).1 | (constructor <;> omega)) (by omega) dX8_comes_256 ?_ | refine w_iast F (aM10 _) (by omega) (by decide) rfl rfl (by first | assumption | exact inR0 | exact (hR _ _ _).1 | (constructor <;> omega)) (by omega) (by omega) dX8_comes_256 ?_
          refine w_aload_n F dX8_comes_257 rfl rfl ?_
          refine w_iload F dX8_comes_258 rfl ?_
          generalize hg5 : gu (gu (gu (gu g4 0 6 x (xa : Int)) 0 7 x (xb : Int)) 0 9 x (g2 0 2 o1)) 0 10 x (o1 : Int) = g5
          have o5 : Off0 [6, 7, 9, 10] g4 g5 := by rw [← hg5]; exact (((Off0.rf.up (by decide)).up (by decide)).up (by decide)).up (by decide)
          have a5 : ∀ z, z ≠ x → ∀ f, g5 0 f z = g4 0 f z := fun z h1 f => by rw [← hg5, gu_n (by omega), gu_n (by omega), gu_n (by omega), gu_n (by omega)]
          have p6 : g5 0 6 x = xa := by rw [← hg5]; simp [gu]
          have p7 : g5 0 7 x = xb := by rw [← hg5]; simp [gu]
          have p9 : g5 0 9 x = g2 0 2 o1 := by rw [← hg5]; simp [gu]
          have p10 : g5 0 10 x = o1 := by rw [← hg5]; simp [gu]
          clear hg5
          have i2 : g5 0 2 = g2 0 2 := by rw [o5.f 2 rfl, o4.f 2 rfl, o3.f 2 rfl]
          have ra : RepM (g5 0) (.leaf o1) xa [xa] := by
            have := lfM_rep (γ := g2) (x := xa) (j := o1) hxa ho1.1
            rw [hg3] at this
            refine this.cong (fun y hy => ?_) (fun i _ => by rw [i2, o3.f 2 rfl])
            simp at hy
            subst hy
            rw [a5 y (Ne.symm hxxa), a5 y (Ne.symm hxxa), a5 y (Ne.symm hxxa), a5 y (Ne.symm hxxa), a5 y (Ne.symm hxxa), ← hg4, lfM_at hab, lfM_at hab, lfM_at hab, lfM_at hab, lfM_at hab]
            exact ⟨rfl, rfl, rfl, rfl, rfl⟩
          have rb : RepM (g5 0) (.leaf o2) xb [xb] := by
            have := lfM_rep (γ := g3) (x := xb) (j := o2) hxb ho2
            rw [hg4] at this
            refine this.cong (fun y hy => ?_) (fun i _ => by rw [i2, o4.f 2 rfl, o3.f 2 rfl])
            simp at hy
            subst hy
            rw [a5 y (Ne.symm hxxb), a5 y (Ne.symm hxxb), a5 y (Ne.symm hxxb), a5 y (Ne.symm hxxb), a5 y (Ne.symm hxxb)]
            exact ⟨rfl, rfl, rfl, rfl, rfl⟩
          have hκ1 : keyT (upT T j k s d ln) o1 = (16 * g2 0 2 o1 + o1).toNat := by
            rcases ho with ⟨rfl, -⟩ | ⟨rfl, -⟩
            · rw [vj]; exact hκj
            · exact hκq
          have r5 : RepM (g5 0) (.branch (keyT (upT T j k s d ln) o1) (.leaf o1) (.leaf o2)) x [x, xa, xb] := ⟨xa, xb, [xa], [xb], rfl, e2, p6, p7, ra, rb, by rw [p9, p10, hκ1]; omega, by rw [p10]; omega, by rw [p10]; omega, by rw [p9]; omega, by rw [p9]; omega⟩
          have c5 : CtxM (g5 0) x ctx := hc.cong (fun y hy => by
            have hyx : y ≠ x := fun e => by
              have := hu.1
              rw [e1] at this
              simp at this
              exact this.1 (by rw [← e]; exact hy)
            have hya : y ≠ xa := fun e => by rw [← e] at nd; simp [hy] at nd
            have hyb : y ≠ xb := fun e => by rw [← e] at nd; simp [hy] at nd
            rw [a5 y hyx, a5 y hyx, a5 y hyx, a5 y hyx, a5 y hyx, a4 y hya hyb, a4 y hya hyb, a4 y hya hyb, a4 y hya hyb, a4 y hya hyb]
            exact ⟨rfl, rfl, rfl, rfl, rfl⟩) (fun f _ i _ => by rw [i2])
          have u5 : UsM (g5 0) ([x, xa, xb] ++ cn ctx) := by
            have h1 : UsM (g5 0) (xb :: xa :: (nu ++ cn ctx)) := u4.cong (fun z hz => by
              by_cases e : z = x
              · subst e
                rw [p6, a4 z hxxa hxxb, e3]
                omega
              · rw [a5 z e])
            refine h1.perm ?_
            rw [e1, List.perm_iff_count]
            intro a
            simp [List.count_cons]
            omega
          have hlenP : (tl (plug ctx (.branch (keyT (upT T j k s d ln) o1) (.leaf o1) (.leaf o2)))).length ≤ 12 := by
            have := len_plug ctx (.branch (keyT (upT T j k s d ln) o1) (.leaf o1) (.leaf o2)) (.leaf q)
            rw [hpl] at this
            simp [tl] at this ⊢
            omega
          have hmemP : ∀ i ∈ tl (plug ctx (.branch (keyT (upT T j k s d ln) o1) (.leaf o1) (.leaf o2))), i = j ∨ i ∈ tl t := by
            intro i hi
            rcases mem_plugC hi with h1 | h1
            · simp [tl] at h1
              rcases h1 with rfl | rfl <;> rcases ho with ⟨rfl, rfl⟩ | ⟨rfl, rfl⟩ <;> simp [hqt]
            · right
              have := h1 (.leaf q)
              rw [hpl] at this
              exact this
          refine w_callV F (As := [_]) (ct_settles hE hm g5 r5 c5 u5 hlenP (fun i hi => by rw [i2]; exact (hmemP i hi).elim (fun e => by rw [e, vj]; exact hs) (fun h1 => (vS i h1).2)) (by rw [o5.f 11 rfl, o4.f 11 rfl, o3.f 11 rfl, O2.f 11 rfl]; exact hlv)) (lw_V q848 q850 qs39 q88 q851) md_X8_settles (by omega) cell_mdO rfl rfl rfl rfl (Nat.le_of_ble_eq_true rfl) dX8_comes_260 ⟨by omega, by omega⟩ ⟨by omega, by omega⟩ ?_
          rintro _ g6 ⟨rfl, ⟨nf, f1, f2⟩, f3, f4⟩
          have hcg : settT (keyM (g5 0)) ctx (.branch (keyT (upT T j k s d ln) o1) (.leaf o1) (.leaf o2)) = settT (keyT (upT T j k s d ln)) ctx (.branch (keyT (upT T j k s d ln) o1) (.leaf o1) (.leaf o2)) := settT_cg (fun i hi => by
            unfold keyM
            rw [i2]
            rcases hmemP i hi with rfl | h1
            · rw [vj]; exact hκj.symm
            · exact (hκ i h1).symm)
          have hadd : addO (keyT (upT T j k s d ln)) j (some t) = (settT (keyT (upT T j k s d ln)) ctx (.branch (keyT (upT T j k s d ln) o1) (.leaf o1) (.leaf o2)), settN ctx (.branch (keyT (upT T j k s d ln) o1) (.leaf o1) (.leaf o2))) := by
            show levT _ _ (insT _ j t) = _
            rw [← hpl, ins_plug ctx _ hpth, hins]
            exact sett_lev hpth (lev_two _ _ _ _ _)
          rw [hcg, hroot] at f1
          refine w_iload F dX8_comes_263 rfl ?_
          exact w_iret F (by omega) (by omega) (⟨rfl, ⟨by rw [f4.f 0 rfl, o5.f 0 rfl, o4.f 0 rfl, o3.f 0 rfl]; exact v0, ⟨r, nf, by rw [f4.f 5 rfl, o5.f 5 rfl, o4.f 5 rfl, o3.f 5 rfl, O2.f 5 rfl]; exact m2, by rw [hadd]; exact f1, f2⟩, fun i hi f h1 h4 => by rw [f4 0 f (by simp; omega), o5 0 f (by simp; omega), o4 0 f (by simp; omega), o3 0 f (by simp; omega)]; exact vT i hi f h1 h4⟩, by rw [f3, hadd, o5.f 11 rfl, o4.f 11 rfl, o3.f 11 rfl, O2.f 11 rfl], ((((O2.mono (by decide)).tr (o3.mono (by decide))).tr (o4.mono (by decide))).tr (o5.mono (by decide))).tr (f4.mono (by decide))⟩) dX8_comes_265
        have hcond : (s < g2 0 2 q ∨ s = g2 0 2 q ∧ (j : Int) ≤ (q : Int)) ↔ keyT (upT T j k s d ln) j ≤ keyT (upT T j k s d ln) q := by
          rw [hκj, hκq]
          omega
        have hu1 : (nu ++ cn ctx).length ≤ 21 := by omega
        refine w_rng (fun hR => ?_)
        refine w_aload_n F dX8_comes_149 rfl rfl ?_
        refine w_get F (by omega) cell_mdO rfl in_X8 8 (by decide) (Or.inl q880) rfl dX8_comes_150 ?_
        refine w_iload F dX8_comes_153 rfl ?_
        first | refine w_ialdN F (aM8 _) (by omega) (by decide) (by omega) dX8_comes_155 ?_ | refine w_iald F (aM8 _) (by omega) (by decide) (by omega) (by omega) dX8_comes_155 ?_
        refine w_top e4 ?_
        refine w_istore F dX8_comes_156 (by decide) rfl (lv' := [(0, _), (1, _), (2, _), (3, _), (4, _), (5, _), (6, _), (7, _)]) rfl ?_
        refine w_iload_n F dX8_comes_158 rfl ?_
        refine w_iload F dX8_comes_159 rfl ?_
        refine w_aload_n F dX8_comes_161 rfl rfl ?_
        refine w_get F (by omega) cell_mdO rfl in_X8 2 (by decide) (Or.inl q874) rfl dX8_comes_162 ?_
        refine w_iload F dX8_comes_165 rfl ?_
        first | refine w_ialdN F (aM2 _) (by omega) (by decide) (by omega) dX8_comes_167 ?_ | refine w_iald F (aM2 _) (by omega) (by decide) (by omega) (by omega) dX8_comes_167 ?_
        refine w_iload F dX8_comes_168 rfl ?_
        refine w_callS F (As := [_, _, _, _]) (ct_isLeft hE g2 (s := s) (n := (j : Int)) (s2 := g2 0 2 q) (n2 := (q : Int)) (by constructor <;> omega) (by constructor <;> omega) (by constructor <;> omega) (by constructor <;> omega)) (lw_S q845 q846 q88 q847) md_X8_isLeft rfl rfl (Nat.le_of_ble_eq_true rfl) dX8_comes_170 ⟨by omega, by omega⟩ ⟨by omega, by omega⟩ ?_
        rintro _ _ ⟨rfl, rfl⟩
        by_cases hle : keyT (upT T j k s d ln) j ≤ keyT (upT T j k s d ln) q
        · rw [b2i_t (hcond.mpr hle)]
          refine w_istore F dX8_comes_173 (by decide) rfl (lv' := [(0, _), (1, _), (2, _), (3, _), (4, _), (5, _), (6, _), (7, _), (8, _)]) rfl ?_
          refine w_aload_n F dX8_comes_175 rfl rfl ?_
          refine w_iload F dX8_comes_176 rfl ?_
          refine w_if_eq F (tgt := 186) dX8_comes_178 (by decide) (by first | assumption | exact inR0 | exact (hR _ _ _).1 | (constructor <;> omega)) (fun h => ?_) (fun h => ?_)
          · exact absurd h (by decide)
          · refine w_iload F dX8_comes_181 rfl ?_
            refine w_goto F (tgt := 188) dX8_comes_183 (by decide) ?_
            refine w_callV F (As := [_]) (ct_newLeaf hE hm g2 hj (hu.free (by omega))) (lw_V q833 q835 qs36 q88 q836) md_X8_newLeaf (by omega) cell_mdO rfl rfl rfl rfl (Nat.le_of_ble_eq_true rfl) dX8_comes_188 ⟨by omega, by omega⟩ ⟨by omega, by omega⟩ ?_
            rintro _ g3 ⟨xa, hxa, hxaf, rfl, hg3⟩
            have u3 : UsM (g3 0) (xa :: (nu ++ cn ctx)) := by rw [← hg3]; exact hu.nw hxa hxaf
            refine w_istore F dX8_comes_191 (by decide) rfl (lv' := [(0, _), (1, _), (2, _), (3, _), (4, _), (5, _), (6, _), (7, _), (8, _), (9, _)]) rfl ?_
            refine w_aload_n F dX8_comes_193 rfl rfl ?_
            refine w_iload F dX8_comes_194 rfl ?_
            refine w_if_eq F (tgt := 204) dX8_comes_196 (by decide) (by first | assumption | exact inR0 | exact (hR _ _ _).1 | (constructor <;> omega)) (fun h2 => ?_) (fun h2 => ?_)
            · exact absurd h2 (by decide)
            · refine w_iload F dX8_comes_199 rfl ?_
              refine w_goto F (tgt := 206) dX8_comes_201 (by decide) ?_
              refine w_callV F (As := [_]) (ct_newLeaf hE hm g3 e7 (u3.free (by rw [List.length_cons]; omega))) (lw_V q833 q835 qs36 q88 q836) md_X8_newLeaf (by omega) cell_mdO rfl rfl rfl rfl (Nat.le_of_ble_eq_true rfl) dX8_comes_206 ⟨by omega, by omega⟩ ⟨by omega, by omega⟩ ?_
              rintro _ g4 ⟨xb, hxb, hxbf, rfl, hg4⟩
              refine w_istore F dX8_comes_209 (by decide) rfl (lv' := [(0, _), (1, _), (2, _), (3, _), (4, _), (5, _), (6, _), (7, _), (8, _), (9, _), (10, _)]) rfl ?_
              exact two j q (Or.inl ⟨rfl, rfl⟩) (by unfold insT; rw [if_pos hle]) xa xb g3 g4 hg3 hg4 hxa hxaf hxb hxbf 1
        · rw [b2i_f (fun z => hle (hcond.mp z))]
          refine w_istore F dX8_comes_173 (by decide) rfl (lv' := [(0, _), (1, _), (2, _), (3, _), (4, _), (5, _), (6, _), (7, _), (8, _)]) rfl ?_
          refine w_aload_n F dX8_comes_175 rfl rfl ?_
          refine w_iload F dX8_comes_176 rfl ?_
          refine w_if_eq F (tgt := 186) dX8_comes_178 (by decide) (by first | assumption | exact inR0 | exact (hR _ _ _).1 | (constructor <;> omega)) (fun h => ?_) (fun h => ?_)
          · refine w_iload F dX8_comes_186 rfl ?_
            refine w_callV F (As := [_]) (ct_newLeaf hE hm g2 e7 (hu.free (by omega))) (lw_V q833 q835 qs36 q88 q836) md_X8_newLeaf (by omega) cell_mdO rfl rfl rfl rfl (Nat.le_of_ble_eq_true rfl) dX8_comes_188 ⟨by omega, by omega⟩ ⟨by omega, by omega⟩ ?_
            rintro _ g3 ⟨xa, hxa, hxaf, rfl, hg3⟩
            have u3 : UsM (g3 0) (xa :: (nu ++ cn ctx)) := by rw [← hg3]; exact hu.nw hxa hxaf
            refine w_istore F dX8_comes_191 (by decide) rfl (lv' := [(0, _), (1, _), (2, _), (3, _), (4, _), (5, _), (6, _), (7, _), (8, _), (9, _)]) rfl ?_
            refine w_aload_n F dX8_comes_193 rfl rfl ?_
            refine w_iload F dX8_comes_194 rfl ?_
            refine w_if_eq F (tgt := 204) dX8_comes_196 (by decide) (by first | assumption | exact inR0 | exact (hR _ _ _).1 | (constructor <;> omega)) (fun h2 => ?_) (fun h2 => ?_)
            · refine w_iload F dX8_comes_204 rfl ?_
              refine w_callV F (As := [_]) (ct_newLeaf hE hm g3 hj (u3.free (by rw [List.length_cons]; omega))) (lw_V q833 q835 qs36 q88 q836) md_X8_newLeaf (by omega) cell_mdO rfl rfl rfl rfl (Nat.le_of_ble_eq_true rfl) dX8_comes_206 ⟨by omega, by omega⟩ ⟨by omega, by omega⟩ ?_
              rintro _ g4 ⟨xb, hxb, hxbf, rfl, hg4⟩
              refine w_istore F dX8_comes_209 (by decide) rfl (lv' := [(0, _), (1, _), (2, _), (3, _), (4, _), (5, _), (6, _), (7, _), (8, _), (9, _), (10, _)]) rfl ?_
              exact two q j (Or.inr ⟨rfl, rfl⟩) (by unfold insT; rw [if_neg hle]) xa xb g3 g4 hg3 hg4 hxa hxaf hxb hxbf 0
            · exact absurd rfl h2
          · exact absurd rfl h
      have down : ∀ (u : TT) (x : Nat) (nu : List Nat) (ctx : List FrT), RepM (g2 0) u x nu → CtxM (g2 0) x ctx → UsM (g2 0) (nu ++ cn ctx) → (nu ++ cn ctx).length + 1 = 2 * (tl t).length → plug ctx u = t → Pth (keyT (upT T j k s d ln) j) ctx → rootC x ctx = r → Wg Φ 11 g2 0 0 95 [(0, .ref (Φ.E.ad 414)), (1, .int (iI k)), (2, .int (iI s)), (3, .int (iI d)), (4, .int (iI ln)), (5, .int (iI (j : Int))), (6, .int (iI (x : Int)))] [] := by
        intro u
        induction u with
        | leaf q =>
          intro x nu ctx h1 h2 h3 h4 h5 h6 h7
          refine w_aload_n F dX8_comes_95 rfl rfl ?_
          refine w_iload F dX8_comes_96 rfl ?_
          refine w_callV F (As := [_]) (ct_isLeaf hE hm g2 h1.lt) (lw_V q841 q843 qs38 q88 q844) md_X8_isLeaf (by omega) cell_mdO rfl rfl rfl rfl (Nat.le_of_ble_eq_true rfl) dX8_comes_98 ⟨by omega, by omega⟩ ⟨by omega, by omega⟩ ?_
          rintro _ _ ⟨rfl, rfl⟩
          refine w_if_ne F (tgt := 149) dX8_comes_101 (by decide) (b2i_R _) (fun h => ?_) (fun h => ?_)
          · exact fin x q ctx nu h1 h2 h3 h4 h5 h6 h7
          · rw [b2i_0] at h
            exact absurd h1.2.2.1 h
        | branch κ a c iha ihc =>
          intro x nu ctx h1 h2 h3 h4 h5 h6 h7
          have hx24 := h1.lt
          obtain ⟨xa, xb, na, nb, e1, e2, e3, e4, e5, e6, e7, e8⟩ := id h1
          refine w_aload_n F dX8_comes_95 rfl rfl ?_
          refine w_iload F dX8_comes_96 rfl ?_
          refine w_callV F (As := [_]) (ct_isLeaf hE hm g2 h1.lt) (lw_V q841 q843 qs38 q88 q844) md_X8_isLeaf (by omega) cell_mdO rfl rfl rfl rfl (Nat.le_of_ble_eq_true rfl) dX8_comes_98 ⟨by omega, by omega⟩ ⟨by omega, by omega⟩ ?_
          rintro _ _ ⟨rfl, rfl⟩
          refine w_if_ne F (tgt := 149) dX8_comes_101 (by decide) (b2i_R _) (fun h => ?_) (fun h => ?_)
          · rw [b2i_n0] at h
            omega
          · refine w_iload_n F dX8_comes_104 rfl ?_
            refine w_iload F dX8_comes_105 rfl ?_
            refine w_aload_n F dX8_comes_107 rfl rfl ?_
            refine w_get F (by omega) cell_mdO rfl in_X8 9 (by decide) (Or.inl q881) rfl dX8_comes_108 ?_
            refine w_iload F dX8_comes_111 rfl ?_
            first | refine w_ialdN F (aM9 _) (by omega) (by decide) (by omega) dX8_comes_113 ?_ | refine w_iald F (aM9 _) (by omega) (by decide) (by omega) (by omega) dX8_comes_113 ?_
            refine w_aload_n F dX8_comes_114 rfl rfl ?_
            refine w_get F (by omega) cell_mdO rfl in_X8 10 (by decide) (Or.inl q882) rfl dX8_comes_115 ?_
            refine w_iload F dX8_comes_118 rfl ?_
            first | refine w_ialdN F (aM10 _) (by omega) (by decide) (by omega) dX8_comes_120 ?_ | refine w_iald F (aM10 _) (by omega) (by decide) (by omega) (by omega) dX8_comes_120 ?_
            refine w_callS F (As := [_, _, _, _]) (ct_isLeft hE g2 (s := s) (n := (j : Int)) (s2 := g2 0 9 x) (n2 := g2 0 10 x) (by constructor <;> omega) (by constructor <;> omega) (by constructor <;> omega) (by constructor <;> omega)) (lw_S q845 q846 q88 q847) md_X8_isLeft rfl rfl (Nat.le_of_ble_eq_true rfl) dX8_comes_121 ⟨by omega, by omega⟩ ⟨by omega, by omega⟩ ?_
            rintro _ _ ⟨rfl, rfl⟩
            have hcond : (s < g2 0 9 x ∨ s = g2 0 9 x ∧ (j : Int) ≤ g2 0 10 x) ↔ keyT (upT T j k s d ln) j ≤ κ := by
              rw [hκj]
              omega
            refine w_if_eq F (tgt := 137) dX8_comes_124 (by decide) (b2i_R _) (fun h9 => ?_) (fun h9 => ?_)
            · rw [b2i_0, hcond] at h9
              refine w_aload_n F dX8_comes_137 rfl rfl ?_
              refine w_get F (by omega) cell_mdO rfl in_X8 7 (by decide) (Or.inl q879) rfl dX8_comes_138 ?_
              refine w_iload F dX8_comes_141 rfl ?_
              first | refine w_ialdN F (aM7 _) (by omega) (by decide) (by omega) dX8_comes_143 ?_ | refine w_iald F (aM7 _) (by omega) (by decide) (by omega) (by omega) dX8_comes_143 ?_
              refine w_top e4 ?_
              refine w_istore F dX8_comes_144 (by decide) rfl (lv' := [(0, _), (1, _), (2, _), (3, _), (4, _), (5, _), (6, _)]) rfl ?_
              refine w_goto F (tgt := 95) dX8_comes_146 (by decide) ?_
              refine ihc xb nb ((x, κ, false, a, xa, na) :: ctx) e6 ⟨⟨e2, ⟨e3, e4⟩, e5, e7, e8⟩, h2⟩ ?_ ?_ h5 ?_ h7
              · refine h3.perm ?_
                rw [e1, List.perm_iff_count]
                intro y
                simp [cn, List.count_cons]
                omega
              · rw [← h4, e1]
                simp [cn]
                omega
              · intro f hf
                rcases List.mem_cons.mp hf with e | e
                · rw [e]
                  exact ⟨fun z => (by cases z), fun z => absurd z h9⟩
                · exact h6 f e
            · rw [b2i_n0, hcond] at h9
              refine w_aload_n F dX8_comes_127 rfl rfl ?_
              refine w_get F (by omega) cell_mdO rfl in_X8 6 (by decide) (Or.inl q878) rfl dX8_comes_128 ?_
              refine w_iload F dX8_comes_131 rfl ?_
              first | refine w_ialdN F (aM6 _) (by omega) (by decide) (by omega) dX8_comes_133 ?_ | refine w_iald F (aM6 _) (by omega) (by decide) (by omega) (by omega) dX8_comes_133 ?_
              refine w_goto F (tgt := 144) dX8_comes_134 (by decide) ?_
              refine w_top e3 ?_
              refine w_istore F dX8_comes_144 (by decide) rfl (lv' := [(0, _), (1, _), (2, _), (3, _), (4, _), (5, _), (6, _)]) rfl ?_
              refine w_goto F (tgt := 95) dX8_comes_146 (by decide) ?_
              refine iha xa na ((x, κ, true, c, xb, nb) :: ctx) e5 ⟨⟨e2, ⟨e3, e4⟩, e6, e7, e8⟩, h2⟩ ?_ ?_ h5 ?_ h7
              · refine h3.perm ?_
                rw [e1, List.perm_iff_count]
                intro y
                simp [cn, List.count_cons]
                omega
              · rw [← h4, e1]
                simp [cn]
                omega
              · intro f hf
                rcases List.mem_cons.mp hf with e | e
                · rw [e]
                  exact ⟨fun _ => h9, fun _ => rfl⟩
                · exact h6 f e
      refine w_aload_n F dX8_comes_67 rfl rfl ?_
      refine w_getF F (fM5 _) (by omega) rfl in_X8 (by decide) (Or.inl q877) dX8_comes_68 ?_
      refine w_top (z' := (r : Int)) (by rw [O2.f 5 rfl]; exact m2) ?_
      refine w_bipush F dX8_comes_71 rfl ?_
      refine w_icmp_ne F (tgt := 89) dX8_comes_73 (by decide) (by first | assumption | exact inR0 | exact (hR _ _ _).1 | (constructor <;> omega)) (by first | assumption | exact inR0 | exact (hR _ _ _).1 | (constructor <;> omega)) (fun h => ?_) (fun h => ?_)
      · refine w_aload_n F dX8_comes_89 rfl rfl ?_
        refine w_getF F (fM5 _) (by omega) rfl in_X8 (by decide) (Or.inl q877) dX8_comes_90 ?_
        refine w_top (z' := (r : Int)) (by rw [O2.f 5 rfl]; exact m2) ?_
        refine w_istore F dX8_comes_93 (by decide) rfl (lv' := [(0, _), (1, _), (2, _), (3, _), (4, _), (5, _), (6, _)]) rfl ?_
        exact down t r ns [] r2 trivial (by simpa [cn] using u2) (by simpa [cn] using hnsl) rfl (fun f hf => by cases hf) rfl
      · omega
  refine w_iconst F dX8_comes_0 ?_
  refine w_istore F dX8_comes_1 (by decide) rfl (lv' := [(0, _), (1, _), (2, _), (3, _), (4, _), (5, _)]) rfl ?_
  have loop : ∀ m i : Nat, i ≤ j → j - i ≤ m → Wg Φ 11 γ 0 0 3 [(0, .ref (Φ.E.ad 414)), (1, .int (iI k)), (2, .int (iI s)), (3, .int (iI d)), (4, .int (iI ln)), (5, .int (iI (i : Int)))] [] := by
    intro m
    induction m with
    | zero =>
      intro i h1 h2
      have e : i = j := by omega
      subst e
      refine w_aload_n F dX8_comes_3 rfl rfl ?_
      refine w_getF F (fM0 _) (by omega) rfl in_X8 (by decide) (Or.inl q872) dX8_comes_4 ?_
      refine w_top hb ?_
      refine w_iload F dX8_comes_7 rfl ?_
      refine w_callS F (As := [_, _]) (ct_has hE γ (a := b) (j := i) (by omega) (by omega)) (lw_S q830 q831 q88 q832) md_X8_has rfl rfl (Nat.le_of_ble_eq_true rfl) dX8_comes_9 ⟨by omega, by omega⟩ ⟨by omega, by omega⟩ ?_
      rintro _ _ ⟨rfl, rfl⟩
      refine w_if_eq F (tgt := 21) dX8_comes_12 (by decide) (b2i_R _) (fun h => ?_) (fun h => ?_)
      · exact K
      · rw [b2i_n0, hjf] at h
        cases h
    | succ m ih =>
      intro i h1 h2
      refine w_aload_n F dX8_comes_3 rfl rfl ?_
      refine w_getF F (fM0 _) (by omega) rfl in_X8 (by decide) (Or.inl q872) dX8_comes_4 ?_
      refine w_top hb ?_
      refine w_iload F dX8_comes_7 rfl ?_
      refine w_callS F (As := [_, _]) (ct_has hE γ (a := b) (j := i) (by omega) (by omega)) (lw_S q830 q831 q88 q832) md_X8_has rfl rfl (Nat.le_of_ble_eq_true rfl) dX8_comes_9 ⟨by omega, by omega⟩ ⟨by omega, by omega⟩ ?_
      rintro _ _ ⟨rfl, rfl⟩
      refine w_if_eq F (tgt := 21) dX8_comes_12 (by decide) (b2i_R _) (fun h => ?_) (fun h => ?_)
      · rw [b2i_0] at h
        have e : i = j := by
          rcases Nat.lt_or_ge i j with q | q
          · exact absurd (hjm i q) h
          · omega
        rw [e]
        exact K
      · rw [b2i_n0] at h
        have e : i ≠ j := fun e => by rw [e, hjf] at h; cases h
        refine w_iinc F dX8_comes_15 rfl (by decide) rfl (lv' := [(0, _), (1, _), (2, _), (3, _), (4, _), (5, _)]) rfl ?_
        refine w_goto F (tgt := 3) dX8_comes_18 (by decide) ?_
        exact ih (i + 1) (by omega) (by omega)
  exact loop 12 0 (by omega) (by omega)
end M7
