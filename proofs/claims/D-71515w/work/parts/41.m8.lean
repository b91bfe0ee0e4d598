/-! the model: a job goes -/
section M8
variable {l : Launch} {E : EE}
theorem ct_goes (hE : EOk E) (hm : 438 ≤ E.nk) (γ : GG) {b j : Nat} {T : Nat → Nat → Int} {t : TT} (hJ : JOk b T) (hv : MV (γ 0) b T t) (hT : TOk b t) (hO : OrdT (keyT T) t) (hj : b.testBit j = true) (h2 : 2 ≤ (tl t).length) (hlv : 0 ≤ γ 0 11 0 ∧ γ 0 11 0 < 2000000000) :
    Ct l yX8_goes cX8_goes 5 none E 500 32000 [.ref (E.ad 414), .int (iI (j : Int))] γ (fun v g => v = none ∧ MV (g 0) (b ^^^ (b &&& 2 ^ j)) T (cutT (keyT T) (keyT T j) t).1 ∧ g 0 11 0 = γ 0 11 0 + (cutT (keyT T) (keyT T j) t).2 ∧ Off0 [0, 6, 7, 8, 9, 10, 11, 12, 13, 14, 15] γ g) 0 0 := by
  refine Ct.of hE (by decide) (Nat.le_of_ble_eq_true rfl) (fun Φ hLn hΦ F hfr hlo => ?_)
  subst hLn; subst hΦ
  have h414 := F.ok.1.2.2
  have hrc := F.rc
  have hrs := F.rs
  show Wg Φ 5 _ 0 0 0 [(0, _), (1, _)] []
  refine w_rng (fun hR => ?_)
  obtain ⟨hb, ⟨r, ns, m2, m3, m4⟩, m5⟩ := hv
  have hb2 := hJ.1
  have hj12 := tb12 hb2 hj
  have hlen := hT.len hb2
  have vS : ∀ i ∈ tl t, γ 0 2 i = T 2 i ∧ 0 ≤ γ 0 2 i ∧ γ 0 2 i ≤ 99 := fun i hi => by
    have h5 := (hT.1 i).mp hi
    rw [m5 i h5 2 (by omega) (by omega)]
    exact ⟨rfl, (hJ.2 i h5).2.1⟩
  obtain ⟨x, ctx, w1, w2, w3, w4, w5, w6⟩ := way (κ := keyT T) (ctx := []) m3 trivial hO ((hT.1 j).mpr hj) (fun f hf => by cases hf)
  simp only [List.append_nil] at w2 w3 w4 w5 w6
  have w3 : plug ctx (.leaf j) = t := w3
  have w5 : rootC x ctx = r := w5
  simp only [cn, List.append_nil] at w6
  cases ctx with
  | nil =>
    rw [← w3] at h2
    simp [plug, tl] at h2
  | cons f c2 =>
    obtain ⟨y, s, sd, u, xo, no⟩ := f
    have hu : UsM (γ 0) ([x] ++ cn ((y, s, sd, u, xo, no) :: c2)) := m4.perm w6.symm
    have hnd := hu.1
    obtain ⟨f1, f2, f3, f4⟩ := w2.1
    have f3 : RepM (γ 0) u xo no := f3
    have f1 : y < 24 := f1
    have hx24 := w1.lt
    have hxo := f3.lt
    obtain ⟨ro, hro⟩ := f3.hd
    have hxin : x ∈ ns := w6.mem_iff.mp List.mem_cons_self
    have habv : abv (γ 0) x 24 = (y : Int) := abv_ctx w1 w2 hu
    have hlfo : lfo (γ 0) (j : Int) 24 = (x : Int) := leafOf_is m3 m4 hT.2 hxin w1.2.2.1 w1.2.2.2.1
    simp [cn, hro] at hnd
    have hxy : x ≠ y := hnd.1.1
    have hxxo : x ≠ xo := hnd.1.2.1
    have hyxo : y ≠ xo := hnd.2.1.1
    refine w_aload_n F dX8_goes_0 rfl rfl ?_
    refine w_iload_n F dX8_goes_1 rfl ?_
    refine w_callV F (As := [_]) (ct_leafOf hE hm γ (j := (j : Int)) (by constructor <;> omega)) (lw_V q1011 q1013 qs53 q88 q1014) md_X8_leafOf (by omega) cell_mdO rfl rfl rfl rfl (Nat.le_of_ble_eq_true rfl) dX8_goes_2 ⟨by omega, by omega⟩ ⟨by omega, by omega⟩ ?_
    rintro _ _ ⟨rfl, rfl⟩
    rw [hlfo]
    refine w_istore_n F dX8_goes_5 (by decide) rfl (lv' := [(0, _), (1, _), (2, _)]) rfl ?_
    refine w_aload_n F dX8_goes_6 rfl rfl ?_
    refine w_iload_n F dX8_goes_7 rfl ?_
    refine w_callV F (As := [_]) (ct_aboveOf hE hm γ (x := (x : Int)) (by constructor <;> omega)) (lw_V q852 q854 qs40 q88 q855) md_X8_aboveOf (by omega) cell_mdO rfl rfl rfl rfl (Nat.le_of_ble_eq_true rfl) dX8_goes_8 ⟨by omega, by omega⟩ ⟨by omega, by omega⟩ ?_
    rintro _ _ ⟨rfl, rfl⟩
    rw [habv]
    have J : Wg Φ 5 γ 0 0 37 [(0, .ref (Φ.E.ad 414)), (1, .int (iI (j : Int))), (2, .int (iI (x : Int))), (3, .int (iI (y : Int)))] [.int (iI (xo : Int))] := by
      refine w_istore F dX8_goes_37 (by decide) rfl (lv' := [(0, _), (1, _), (2, _), (3, _), (4, _)]) rfl ?_
      refine w_aload_n F dX8_goes_39 rfl rfl ?_
      refine w_get F (by omega) cell_mdO rfl in_X8 6 (by decide) (Or.inl q878) rfl dX8_goes_40 ?_
      refine w_iload_n F dX8_goes_43 rfl ?_
      refine w_bipush F dX8_goes_44 rfl ?_
      first | refine w_iastN F (aM6 _) (by omega) (by decide) rfl rfl (by first | assumption | exact inR0 | exact (hR _ _ _).1 | (constructor <;> omega)) (by omega) dX8_goes_46 ?_ | refine w_iast F (aM6 _) (by omega) (by decide) rfl rfl (by first | assumption | exact inR0 | exact (hR _ _ _).1 | (constructor <;> omega)) (by omega) (by omega) dX8_goes_46 ?_
      refine w_aload_n F dX8_goes_47 rfl rfl ?_
      refine w_get F (by omega) cell_mdO rfl in_X8 6 (by decide) (Or.inl q878) rfl dX8_goes_48 ?_
      refine w_iload_n F dX8_goes_51 rfl ?_
      refine w_aload_n F dX8_goes_52 rfl rfl ?_
      refine w_get F (by omega) cell_mdO rfl in_X8 6 (by decide) (Or.inl q878) rfl dX8_goes_53 ?_
      refine w_iload F dX8_goes_56 rfl ?_
      first | refine w_ialdN F (aM6 _) (by omega) (by decide) (by omega) dX8_goes_58 ?_ | refine w_iald F (aM6 _) (by omega) (by decide) (by omega) (by omega) dX8_goes_58 ?_
      refine w_top (z' := γ 0 6 xo) (by rw [gu_n (by omega)]) ?_
      first | refine w_iastN F (aM6 _) (by omega) (by decide) rfl rfl (by first | assumption | exact inR0 | exact (hR _ _ _).1 | (constructor <;> omega)) (by omega) dX8_goes_59 ?_ | refine w_iast F (aM6 _) (by omega) (by decide) rfl rfl (by first | assumption | exact inR0 | exact (hR _ _ _).1 | (constructor <;> omega)) (by omega) (by omega) dX8_goes_59 ?_
      refine w_aload_n F dX8_goes_60 rfl rfl ?_
      refine w_get F (by omega) cell_mdO rfl in_X8 7 (by decide) (Or.inl q879) rfl dX8_goes_61 ?_
      refine w_iload_n F dX8_goes_64 rfl ?_
      refine w_aload_n F dX8_goes_65 rfl rfl ?_
      refine w_get F (by omega) cell_mdO rfl in_X8 7 (by decide) (Or.inl q879) rfl dX8_goes_66 ?_
      refine w_iload F dX8_goes_69 rfl ?_
      first | refine w_ialdN F (aM7 _) (by omega) (by decide) (by omega) dX8_goes_71 ?_ | refine w_iald F (aM7 _) (by omega) (by decide) (by omega) (by omega) dX8_goes_71 ?_
      refine w_top (z' := γ 0 7 xo) (by rw [gu_f (by decide), gu_f (by decide)]) ?_
      first | refine w_iastN F (aM7 _) (by omega) (by decide) rfl rfl (by first | assumption | exact inR0 | exact (hR _ _ _).1 | (constructor <;> omega)) (by omega) dX8_goes_72 ?_ | refine w_iast F (aM7 _) (by omega) (by decide) rfl rfl (by first | assumption | exact inR0 | exact (hR _ _ _).1 | (constructor <;> omega)) (by omega) (by omega) dX8_goes_72 ?_
      refine w_aload_n F dX8_goes_73 rfl rfl ?_
      refine w_get F (by omega) cell_mdO rfl in_X8 8 (by decide) (Or.inl q880) rfl dX8_goes_74 ?_
      refine w_iload_n F dX8_goes_77 rfl ?_
      refine w_aload_n F dX8_goes_78 rfl rfl ?_
      refine w_get F (by omega) cell_mdO rfl in_X8 8 (by decide) (Or.inl q880) rfl dX8_goes_79 ?_
      refine w_iload F dX8_goes_82 rfl ?_
      first | refine w_ialdN F (aM8 _) (by omega) (by decide) (by omega) dX8_goes_84 ?_ | refine w_iald F (aM8 _) (by omega) (by decide) (by omega) (by omega) dX8_goes_84 ?_
      refine w_top (z' := γ 0 8 xo) (by rw [gu_f (by decide), gu_f (by decide), gu_f (by decide)]) ?_
      first | refine w_iastN F (aM8 _) (by omega) (by decide) rfl rfl (by first | assumption | exact inR0 | exact (hR _ _ _).1 | (constructor <;> omega)) (by omega) dX8_goes_85 ?_ | refine w_iast F (aM8 _) (by omega) (by decide) rfl rfl (by first | assumption | exact inR0 | exact (hR _ _ _).1 | (constructor <;> omega)) (by omega) (by omega) dX8_goes_85 ?_
      refine w_aload_n F dX8_goes_86 rfl rfl ?_
      refine w_get F (by omega) cell_mdO rfl in_X8 9 (by decide) (Or.inl q881) rfl dX8_goes_87 ?_
      refine w_iload_n F dX8_goes_90 rfl ?_
      refine w_aload_n F dX8_goes_91 rfl rfl ?_
      refine w_get F (by omega) cell_mdO rfl in_X8 9 (by decide) (Or.inl q881) rfl dX8_goes_92 ?_
      refine w_iload F dX8_goes_95 rfl ?_
      first | refine w_ialdN F (aM9 _) (by omega) (by decide) (by omega) dX8_goes_97 ?_ | refine w_iald F (aM9 _) (by omega) (by decide) (by omega) (by omega) dX8_goes_97 ?_
      refine w_top (z' := γ 0 9 xo) (by rw [gu_f (by decide), gu_f (by decide), gu_f (by decide), gu_f (by decide)]) ?_
      first | refine w_iastN F (aM9 _) (by omega) (by decide) rfl rfl (by first | assumption | exact inR0 | exact (hR _ _ _).1 | (constructor <;> omega)) (by omega) dX8_goes_98 ?_ | refine w_iast F (aM9 _) (by omega) (by decide) rfl rfl (by first | assumption | exact inR0 | exact (hR _ _ _).1 | (constructor <;> omega)) (by omega) (by omega) dX8_goes_98 ?_
      refine w_aload_n F dX8_goes_99 rfl rfl ?_
      refine w_get F (by omega) cell_mdO rfl in_X8 10 (by decide) (Or.inl q882) rfl dX8_goes_100 ?_
      refine w_iload_n F dX8_goes_103 rfl ?_
      refine w_aload_n F dX8_goes_104 rfl rfl ?_
      refine w_get F (by omega) cell_mdO rfl in_X8 10 (by decide) (Or.inl q882) rfl dX8_goes_105 ?_
      refine w_iload F dX8_goes_108 rfl ?_
      first | refine w_ialdN F (aM10 _) (by omega) (by decide) (by omega) dX8_goes_110 ?_ | refine w_iald F (aM10 _) (by omega) (by decide) (by omega) (by omega) dX8_goes_110 ?_
      refine w_top (z' := γ 0 10 xo) (by rw [gu_f (by decide), gu_f (by decide), gu_f (by decide), gu_f (by decide), gu_f (by decide)]) ?_
      first | refine w_iastN F (aM10 _) (by omega) (by decide) rfl rfl (by first | assumption | exact inR0 | exact (hR _ _ _).1 | (constructor <;> omega)) (by omega) dX8_goes_111 ?_ | refine w_iast F (aM10 _) (by omega) (by decide) rfl rfl (by first | assumption | exact inR0 | exact (hR _ _ _).1 | (constructor <;> omega)) (by omega) (by omega) dX8_goes_111 ?_
      refine w_aload_n F dX8_goes_112 rfl rfl ?_
      refine w_get F (by omega) cell_mdO rfl in_X8 6 (by decide) (Or.inl q878) rfl dX8_goes_113 ?_
      refine w_iload F dX8_goes_116 rfl ?_
      refine w_bipush F dX8_goes_118 rfl ?_
      first | refine w_iastN F (aM6 _) (by omega) (by decide) rfl rfl (by first | assumption | exact inR0 | exact (hR _ _ _).1 | (constructor <;> omega)) (by omega) dX8_goes_120 ?_ | refine w_iast F (aM6 _) (by omega) (by decide) rfl rfl (by first | assumption | exact inR0 | exact (hR _ _ _).1 | (constructor <;> omega)) (by omega) (by omega) dX8_goes_120 ?_
      refine w_aload_n F dX8_goes_121 rfl rfl ?_
      refine w_dup F dX8_goes_122 rfl ?_
      refine w_getF F (fM0 _) (by omega) rfl in_X8 (by decide) (Or.inl q872) dX8_goes_123 ?_
      refine w_top (z' := (b : Int)) (by simp [gu]; exact hb) ?_
      have hpw : 2 ^ j < 4096 := Nat.pow_lt_pow_right (n := 12) (by decide) hj12
      have hxl := xor_lt (j := j) hb2
      refine w_iconst F dX8_goes_126 ?_
      refine w_iload_n F dX8_goes_127 rfl ?_
      refine w_ishl1 F (by omega) dX8_goes_128 ?_
      refine w_iconst F dX8_goes_129 ?_
      refine w_inot F dX8_goes_130 ?_
      first | refine w_iandC F (by omega) dX8_goes_131 ?_ | refine w_iand F dX8_goes_131 ?_
      refine w_putF F (fM0 _) (by omega) rfl in_X8 tyX8 tyX8_ok nmX8 (by decide) (Or.inl q872) rfl rfl rfl (by first | assumption | exact inR0 | exact (hR _ _ _).1 | (constructor <;> omega)) (fun h => by cases h) (fun h => by cases h) dX8_goes_132 ?_
      refine w_aload_n F dX8_goes_135 rfl rfl ?_
      refine w_iload_n F dX8_goes_136 rfl ?_
      generalize hg1 : gu (gu (gu (gu (gu (gu (gu (gu γ 0 6 x (-2)) 0 6 y (γ 0 6 xo)) 0 7 y (γ 0 7 xo)) 0 8 y (γ 0 8 xo)) 0 9 y (γ 0 9 xo)) 0 10 y (γ 0 10 xo)) 0 6 xo (-2)) 0 0 0 ((b ^^^ (b &&& 2 ^ j) : Nat) : Int) = g1
      have o1 : Off0 [0, 6, 7, 8, 9, 10] γ g1 := by
        rw [← hg1]
        exact (((((((Off0.rf.up (by decide)).up (by decide)).up (by decide)).up (by decide)).up (by decide)).up (by decide)).up (by decide)).up (by decide)
      have v0 : g1 0 0 0 = ((b ^^^ (b &&& 2 ^ j) : Nat) : Int) := by rw [← hg1, gu_s]
      have a1 : ∀ z, z ≠ x → z ≠ y → z ≠ xo → ∀ f, 1 ≤ f → g1 0 f z = γ 0 f z := fun z h1 h2 h3 f hf => by rw [← hg1, gu_n (by omega), gu_n (by omega), gu_n (by omega), gu_n (by omega), gu_n (by omega), gu_n (by omega), gu_n (by omega), gu_n (by omega)]
      have p6 : g1 0 6 y = γ 0 6 xo := by rw [← hg1]; simp [gu, hyxo]
      have p7 : g1 0 7 y = γ 0 7 xo := by rw [← hg1]; simp [gu]
      have p8 : g1 0 8 y = γ 0 8 xo := by rw [← hg1]; simp [gu]
      have p9 : g1 0 9 y = γ 0 9 xo := by rw [← hg1]; simp [gu]
      have p10 : g1 0 10 y = γ 0 10 xo := by rw [← hg1]; simp [gu]
      have px : g1 0 6 x = -2 := by rw [← hg1]; simp [gu, hxy, hxxo]
      have po : g1 0 6 xo = -2 := by rw [← hg1]; simp [gu]
      clear hg1
      have i2 : g1 0 2 = γ 0 2 := o1.f 2 rfl
      rw [hro] at f3
      have r1 : RepM (g1 0) u y (y :: ro) := f3.moved f1 p6 p7 p8 p9 p10 (fun z hz => by
        have q1 : z ≠ x := fun e => hnd.1.2.2.1 (by rw [← e]; exact hz)
        have q2 : z ≠ y := fun e => hnd.2.1.2.1 (by rw [← e]; exact hz)
        have q3 : z ≠ xo := fun e => hnd.2.2.1.1 (by rw [← e]; exact hz)
        exact ⟨a1 z q1 q2 q3 6 (by omega), a1 z q1 q2 q3 7 (by omega), a1 z q1 q2 q3 8 (by omega), a1 z q1 q2 q3 9 (by omega), a1 z q1 q2 q3 10 (by omega)⟩) (fun i _ => by rw [i2])
      have c1 : CtxM (g1 0) y c2 := w2.2.cong (fun z hz => by
        have q1 : z ≠ x := fun e => hnd.1.2.2.2 (by rw [← e]; exact hz)
        have q2 : z ≠ y := fun e => hnd.2.1.2.2 (by rw [← e]; exact hz)
        have q3 : z ≠ xo := fun e => hnd.2.2.1.2 (by rw [← e]; exact hz)
        exact ⟨a1 z q1 q2 q3 6 (by omega), a1 z q1 q2 q3 7 (by omega), a1 z q1 q2 q3 8 (by omega), a1 z q1 q2 q3 9 (by omega), a1 z q1 q2 q3 10 (by omega)⟩) (fun f _ i _ => by rw [i2])
      have u1 : UsM (g1 0) ((y :: ro) ++ cn c2) := by
        refine ⟨?_, ?_, ?_⟩
        · simp
          exact ⟨hnd.2.1.2, hnd.2.2.2⟩
        · intro z hz
          refine hu.2.1 z ?_
          simp [cn, hro] at hz ⊢
          grind
        · intro z hz
          by_cases e1 : z = x
          · rw [e1, px]
            simp
            exact ⟨hxy, hnd.1.2.2⟩
          · by_cases e2 : z = xo
            · rw [e2, po]
              simp
              exact ⟨Ne.symm hyxo, hnd.2.2.1⟩
            · by_cases e3 : z = y
              · rw [e3, p6]
                have := f3.used xo List.mem_cons_self
                simp
                omega
              · rw [a1 z e1 e3 e2 6 (by omega), hu.2.2 z hz]
                simp [cn, hro, e1, e2, e3]
      have htr : ∀ i ∈ tl (plug c2 u), i ∈ tl t := by
        intro i hi
        rw [← w3]
        show i ∈ tl (plug c2 (fill _ (.leaf j)))
        rcases mem_plugC hi with q | q
        · refine mem_plug ?_
          unfold fill
          split
          · exact List.mem_append_right _ q
          · exact List.mem_append_left _ q
        · exact q _
      have hlr : (tl (plug c2 u)).length ≤ 12 := by
        have q1 := len_plug c2 u (fill (y, s, sd, u, xo, no) (.leaf j))
        have q2 := tl_fill (y, s, sd, u, xo, no) (.leaf j)
        have q3 : (tl (plug c2 (fill (y, s, sd, u, xo, no) (.leaf j)))).length ≤ 12 := by
          have : plug c2 (fill (y, s, sd, u, xo, no) (.leaf j)) = t := w3
          rw [this]
          exact hlen
        simp [tl] at q2
        omega
      refine w_callV F (As := [_]) (ct_settles hE hm g1 r1 c1 u1 hlr (fun i hi => by rw [i2]; exact (vS i (htr i hi)).2) (by rw [o1.f 11 rfl]; exact hlv)) (lw_V q848 q850 qs39 q88 q851) md_X8_settles (by omega) cell_mdO rfl rfl rfl rfl (Nat.le_of_ble_eq_true rfl) dX8_goes_137 ⟨by omega, by omega⟩ ⟨by omega, by omega⟩ ?_
      rintro _ g2 ⟨rfl, ⟨nf, q1, q2⟩, q3, q4⟩
      have hcg : settT (keyM (g1 0)) c2 u = settT (keyT T) c2 u := settT_cg (fun i hi => by
        unfold keyM keyT
        rw [i2, (vS i (htr i hi)).1])
      have hcut : cutT (keyT T) (keyT T j) t = (settT (keyT T) c2 u, settN c2 u) := by
        rw [← w3]
        exact sett_cut w4 j
      have w5 : rootC y c2 = r := w5
      rw [hcg, w5] at q1
      have tab : ∀ i, (b ^^^ (b &&& 2 ^ j)).testBit i = true → ∀ f, 1 ≤ f → f ≤ 4 → g2 0 f i = T f i := by
        intro i hi f h1 h4
        rw [xor_bit] at hi
        simp at hi
        rw [q4 0 f (by simp; omega), o1 0 f (by simp; omega)]
        exact m5 i hi.1 f h1 h4
      exact w_vret F (by omega) (by omega) (⟨rfl, ⟨by rw [q4.f 0 rfl]; exact v0, ⟨r, nf, by rw [q4.f 5 rfl, o1.f 5 rfl]; exact m2, by rw [hcut]; exact q1, q2⟩, tab⟩, by rw [q3, hcut, o1.f 11 rfl], (o1.mono (by decide)).tr (q4.mono (by decide))⟩) dX8_goes_140
    refine w_istore_n F dX8_goes_11 (by decide) rfl (lv' := [(0, _), (1, _), (2, _), (3, _)]) rfl ?_
    refine w_aload_n F dX8_goes_12 rfl rfl ?_
    refine w_get F (by omega) cell_mdO rfl in_X8 6 (by decide) (Or.inl q878) rfl dX8_goes_13 ?_
    refine w_iload_n F dX8_goes_16 rfl ?_
    first | refine w_ialdN F (aM6 _) (by omega) (by decide) (by omega) dX8_goes_17 ?_ | refine w_iald F (aM6 _) (by omega) (by decide) (by omega) (by omega) dX8_goes_17 ?_
    refine w_iload_n F dX8_goes_18 rfl ?_
    refine w_icmp_ne F (tgt := 31) dX8_goes_19 (by decide) (by first | assumption | exact inR0 | exact (hR _ _ _).1 | (constructor <;> omega)) (by first | assumption | exact inR0 | exact (hR _ _ _).1 | (constructor <;> omega)) (fun h => ?_) (fun h => ?_)
    · refine w_aload_n F dX8_goes_31 rfl rfl ?_
      refine w_get F (by omega) cell_mdO rfl in_X8 6 (by decide) (Or.inl q878) rfl dX8_goes_32 ?_
      refine w_iload_n F dX8_goes_35 rfl ?_
      first | refine w_ialdN F (aM6 _) (by omega) (by decide) (by omega) dX8_goes_36 ?_ | refine w_iald F (aM6 _) (by omega) (by decide) (by omega) (by omega) dX8_goes_36 ?_
      cases sd with
      | true =>
        have f2 : γ 0 6 y = x ∧ γ 0 7 y = xo := f2
        exact absurd f2.1 h
      | false =>
        have f2 : γ 0 6 y = xo ∧ γ 0 7 y = x := f2
        refine w_top f2.1 ?_
        exact J
    · refine w_aload_n F dX8_goes_22 rfl rfl ?_
      refine w_get F (by omega) cell_mdO rfl in_X8 7 (by decide) (Or.inl q879) rfl dX8_goes_23 ?_
      refine w_iload_n F dX8_goes_26 rfl ?_
      first | refine w_ialdN F (aM7 _) (by omega) (by decide) (by omega) dX8_goes_27 ?_ | refine w_iald F (aM7 _) (by omega) (by decide) (by omega) (by omega) dX8_goes_27 ?_
      refine w_goto F (tgt := 37) dX8_goes_28 (by decide) ?_
      cases sd with
      | true =>
        have f2 : γ 0 6 y = x ∧ γ 0 7 y = xo := f2
        refine w_top f2.2 ?_
        exact J
      | false =>
        have f2 : γ 0 6 y = xo ∧ γ 0 7 y = x := f2
        omega
end M8
