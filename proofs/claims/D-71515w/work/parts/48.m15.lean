/-! depths; the model's further acts -/
theorem ancC {σ : Nat → Nat → Int} : ∀ {ctx : List FrT} {t : TT} {x : Nat} {ns : List Nat}, RepM σ t x ns → CtxM σ x ctx → UsM σ (ns ++ cn ctx) → Anc σ x (ctx.map fun f => f.1)
  | [], t, x, ns, h, _, hu => abv_root h (by simpa [cn] using hu)
  | f :: r, t, x, ns, h, hc, hu => by
    obtain ⟨n1, h1, p1⟩ := fill_rep h hc.1
    refine ⟨abv_ctx h hc hu, ancC h1 hc.2 (hu.perm ?_)⟩
    rw [List.perm_iff_count] at p1 ⊢
    intro a
    have := p1 a
    simp [cn, List.count_cons] at this ⊢
    omega
def dmax : TT → Nat
  | .leaf _ => 0
  | .branch _ a b => 1 + max (dmax a) (dmax b)
theorem dmax_lt : ∀ t : TT, dmax t + 1 ≤ (tl t).length
  | .leaf _ => by simp [dmax, tl]
  | .branch _ a b => by
    have h1 := dmax_lt a
    have h2 := dmax_lt b
    simp only [dmax, tl, List.length_append]
    omega
/-- x stands d below the top -/
def Dp (σ : Nat → Nat → Int) (x d : Nat) : Prop := ∃ r, Anc σ x r ∧ r.length = d
theorem deepA {σ : Nat → Nat → Int} : ∀ {u : TT} {x : Nat} {nu : List Nat} {ctx : List FrT}, RepM σ u x nu → CtxM σ x ctx → UsM σ (nu ++ cn ctx) → (∀ z ∈ nu, σ 6 z = -1 → ∃ d, Dp σ z d ∧ d ≤ ctx.length + dmax u) ∧ ∃ z ∈ nu, σ 6 z = -1 ∧ Dp σ z (ctx.length + dmax u)
  | .leaf j, x, nu, ctx, h, hc, hu => by
    have ha := ancC h hc hu
    refine ⟨fun z hz _ => ?_, x, by rw [h.1]; simp, h.2.2.1, _, ha, by simp [dmax]⟩
    rw [h.1] at hz
    simp at hz
    rw [hz]
    exact ⟨ctx.length, ⟨_, ha, by simp⟩, by omega⟩
  | .branch s a b, x, nu, ctx, ⟨xa, xb, na, nb, e1, e2, e3, e4, e5, e6, e7, e8⟩, hc, hu => by
    have pa : UsM σ (na ++ cn ((x, s, true, b, xb, nb) :: ctx)) := hu.perm (by
      rw [e1, List.perm_iff_count]
      intro z
      simp [cn, List.count_cons]
      omega)
    have pb : UsM σ (nb ++ cn ((x, s, false, a, xa, na) :: ctx)) := hu.perm (by
      rw [e1, List.perm_iff_count]
      intro z
      simp [cn, List.count_cons]
      omega)
    obtain ⟨a1, za, a2, a3, a4⟩ := deepA (ctx := (x, s, true, b, xb, nb) :: ctx) e5 ⟨⟨e2, ⟨e3, e4⟩, e6, e7, e8⟩, hc⟩ pa
    obtain ⟨b1, zb, b2, b3, b4⟩ := deepA (ctx := (x, s, false, a, xa, na) :: ctx) e6 ⟨⟨e2, ⟨e3, e4⟩, e5, e7, e8⟩, hc⟩ pb
    simp only [List.length_cons] at a1 a4 b1 b4
    refine ⟨fun z hz h6 => ?_, ?_⟩
    · rw [e1] at hz
      rcases List.mem_cons.mp hz with e | e
      · rw [e, e3] at h6
        omega
      · rcases List.mem_append.mp e with q | q
        · obtain ⟨d, d1, d2⟩ := a1 z q h6
          exact ⟨d, d1, by simp only [dmax]; omega⟩
        · obtain ⟨d, d1, d2⟩ := b1 z q h6
          exact ⟨d, d1, by simp only [dmax]; omega⟩
    · rcases Nat.le_total (dmax b) (dmax a) with q | q
      · exact ⟨za, by rw [e1]; simp [a2], a3, by simp only [dmax]; rw [Nat.max_eq_left q, show ctx.length + (1 + dmax a) = ctx.length + 1 + dmax a by omega]; exact a4⟩
      · exact ⟨zb, by rw [e1]; simp [b2], b3, by simp only [dmax]; rw [Nat.max_eq_right q, show ctx.length + (1 + dmax b) = ctx.length + 1 + dmax b by omega]; exact b4⟩
theorem Anc.uq {σ : Nat → Nat → Int} : ∀ {r r' : List Nat} {x : Nat}, Anc σ x r → Anc σ x r' → r = r'
  | [], [], _, _, _ => rfl
  | [], y :: r', x, h, h' => by
    have h1 : abv σ x 24 = -4 := h
    rw [h'.1] at h1
    omega
  | y :: r, [], x, h, h' => by
    have h1 : abv σ x 24 = -4 := h'
    rw [h.1] at h1
    omega
  | y :: r, y' :: r', x, h, h' => by
    have h1 := h.1.symm.trans h'.1
    have e : y = y' := by omega
    subst e
    rw [Anc.uq h.2 h'.2]
theorem Dp.uq {σ : Nat → Nat → Int} {x d d' : Nat} (h : Dp σ x d) (h' : Dp σ x d') : d = d' := by
  obtain ⟨r, h1, h2⟩ := h
  obtain ⟨r', h1', h2'⟩ := h'
  rw [← h2, ← h2', Anc.uq h1 h1']
section M15
variable {l : Launch} {E : EE}
theorem ct_deepest (hE : EOk E) (hm : 438 ≤ E.nk) (γ : GG) {r : Nat} {t : TT} {ns : List Nat} (hr : RepM (γ 0) t r ns) (hu : UsM (γ 0) ns) (ht : (tl t).length ≤ 12) : Ct l yX8_deepest cX8_deepest 4 (some .int) E 300 24000 [.ref (E.ad 414)] γ (pI (dmax t : Int) γ) 0 0 := by
  refine Ct.of hE (by decide) (Nat.le_of_ble_eq_true rfl) (fun Φ hLn hΦ F hfr hlo => ?_)
  subst hLn; subst hΦ
  have h414 := F.ok.1.2.2
  have hrc := F.rc
  have hrs := F.rs
  show Wg Φ 4 _ 0 0 0 [(0, _)] []
  refine w_rng (fun hR => ?_)
  obtain ⟨dA, zB, dB1, dB2, dB3⟩ := deepA (ctx := []) hr trivial (by simpa [cn] using hu)
  simp only [List.length_nil, Nat.zero_add] at dA dB3
  have hdm := dmax_lt t
  have hin : ∀ z, z < 24 → γ 0 6 z = -1 → z ∈ ns := fun z hz h6 => by
    by_cases e : z ∈ ns
    · exact e
    · have := (hu.2.2 z hz).mpr e
      omega
  have hzB := hu.2.1 zB dB1
  refine w_iconst F dX8_deepest_0 ?_
  refine w_istore_n F dX8_deepest_1 (by decide) rfl (lv' := [(0, _), (1, _)]) rfl ?_
  refine w_iconst F dX8_deepest_2 ?_
  refine w_istore_n F dX8_deepest_3 (by decide) rfl (lv' := [(0, _), (1, _), (2, _)]) rfl ?_
  have loop : ∀ (m x M : Nat), x ≤ 24 → 24 - x < m → M ≤ dmax t → (zB < x → M = dmax t) → Wg Φ 4 γ 0 0 4 [(0, .ref (Φ.E.ad 414)), (1, .int (iI (M : Int))), (2, .int (iI (x : Int)))] [] := by
    intro m
    induction m with
    | zero => intro x M h1 h2; omega
    | succ m ih =>
      intro x M h1 h2 h3 h4
      refine w_iload_n F dX8_deepest_4 rfl ?_
      refine w_bipush F dX8_deepest_5 rfl ?_
      refine w_icmp_ge F (tgt := 41) dX8_deepest_7 (by decide) (by first | assumption | exact inR0 | exact (hR _ _ _).1 | (constructor <;> omega)) (by first | assumption | exact inR0 | exact (hR _ _ _).1 | (constructor <;> omega)) (fun h => ?_) (fun h => ?_)
      · refine w_iload_n F dX8_deepest_41 rfl ?_
        exact w_iret F (by omega) (by omega) (⟨by rw [h4 (by omega)], rfl⟩) dX8_deepest_42
      · have hx : x < 24 := by omega
        refine w_aload_n F dX8_deepest_10 rfl rfl ?_
        refine w_iload_n F dX8_deepest_11 rfl ?_
        refine w_callV F (As := [_]) (ct_isLeaf hE hm γ hx) (lw_V q841 q843 qs38 q88 q844) md_X8_isLeaf (by omega) cell_mdO rfl rfl rfl rfl (Nat.le_of_ble_eq_true rfl) dX8_deepest_12 ⟨by omega, by omega⟩ ⟨by omega, by omega⟩ ?_
        rintro _ _ ⟨rfl, rfl⟩
        refine w_if_eq F (tgt := 35) dX8_deepest_15 (by decide) (b2i_R _) (fun h5 => ?_) (fun h5 => ?_)
        · rw [b2i_0] at h5
          refine w_iinc F dX8_deepest_35 rfl (by decide) rfl (lv' := [(0, _), (1, _), (2, _)]) rfl ?_
          refine w_goto F (tgt := 4) dX8_deepest_38 (by decide) ?_
          refine ih (x + 1) M (by omega) (by omega) h3 (fun q => h4 ?_)
          have : zB ≠ x := fun e => h5 (by rw [← e]; exact dB2)
          omega
        · rw [b2i_n0] at h5
          obtain ⟨d, ⟨r2, d1, d2⟩, d3⟩ := dA x (hin x hx h5) h5
          refine w_aload_n F dX8_deepest_18 rfl rfl ?_
          refine w_iload_n F dX8_deepest_19 rfl ?_
          refine w_callV F (As := [_]) (ct_deepOf hE hm γ hx d1 (by omega)) (lw_V q1007 q1009 qs52 q88 q1010) md_X8_deepOf (by omega) cell_mdO rfl rfl rfl rfl (Nat.le_of_ble_eq_true rfl) dX8_deepest_20 ⟨by omega, by omega⟩ ⟨by omega, by omega⟩ ?_
          rintro _ _ ⟨rfl, rfl⟩
          rw [d2]
          have heq : zB = x → d = dmax t := fun e => by
            subst e
            exact Dp.uq ⟨r2, d1, d2⟩ dB3
          refine w_istore_n F dX8_deepest_23 (by decide) rfl (lv' := [(0, _), (1, _), (2, _), (3, _)]) rfl ?_
          refine w_iload_n F dX8_deepest_24 rfl ?_
          refine w_iload_n F dX8_deepest_25 rfl ?_
          refine w_icmp_le F (tgt := 33) dX8_deepest_26 (by decide) (by first | assumption | exact inR0 | exact (hR _ _ _).1 | (constructor <;> omega)) (by first | assumption | exact inR0 | exact (hR _ _ _).1 | (constructor <;> omega)) (fun h6 => ?_) (fun h6 => ?_)
          · refine w_iload_n F dX8_deepest_33 rfl ?_
            refine w_istore_n F dX8_deepest_34 (by decide) rfl (lv' := [(0, _), (1, _), (2, _), (3, _)]) rfl ?_
            refine w_iinc F dX8_deepest_35 rfl (by decide) rfl (lv' := [(0, _), (1, _), (2, _), (3, _)]) rfl ?_
            refine w_goto F (tgt := 4) dX8_deepest_38 (by decide) ?_
            refine w_keep [0, 1, 2] (lv' := [(0, _), (1, _), (2, _)]) rfl ?_
            refine ih (x + 1) M (by omega) (by omega) h3 (fun q => ?_)
            by_cases e : zB = x
            · have := heq e
              omega
            · exact h4 (by omega)
          · refine w_iload_n F dX8_deepest_29 rfl ?_
            refine w_goto F (tgt := 34) dX8_deepest_30 (by decide) ?_
            refine w_istore_n F dX8_deepest_34 (by decide) rfl (lv' := [(0, _), (1, _), (2, _), (3, _)]) rfl ?_
            refine w_iinc F dX8_deepest_35 rfl (by decide) rfl (lv' := [(0, _), (1, _), (2, _), (3, _)]) rfl ?_
            refine w_goto F (tgt := 4) dX8_deepest_38 (by decide) ?_
            refine w_keep [0, 1, 2] (lv' := [(0, _), (1, _), (2, _)]) rfl ?_
            refine ih (x + 1) d (by omega) (by omega) d3 (fun q => ?_)
            by_cases e : zB = x
            · exact heq e
            · have := h4 (by omega)
              omega
  exact loop 25 0 0 (by omega) (by omega) (by omega) (fun q => by omega)
theorem ct_delayM (hE : EOk E) (hm : 438 ≤ E.nk) (γ : GG) {Lb : Int} {v : VV} {vu vk : List VV} (hF : MF (γ 0) Lb v vu vk) (hV : VOk v) {j d : Int} (hj : InR j) (hd : InR d) : Ct l yX8_delay cX8_delay 4 (some .int) E 600 36000 [.ref (E.ad 414), .int (iI j), .int (iI d)] γ (fun r g => Off0 offA γ g ∧ ((¬ ((0 ≤ j ∧ j ≤ 11 ∧ v.1.testBit j.toNat = true) ∧ (0 ≤ d ∧ d ≤ 99)) ∧ r = some (.int (iI (-1))) ∧ MF (g 0) (Lb + 1) v vu vk) ∨ (((0 ≤ j ∧ j ≤ 11 ∧ v.1.testBit j.toNat = true) ∧ (0 ≤ d ∧ d ≤ 99)) ∧ v.2.1 3 j.toNat = d ∧ r = some (.int (iI (-2))) ∧ MF (g 0) (Lb + 1) v vu vk) ∨ (((0 ≤ j ∧ j ≤ 11 ∧ v.1.testBit j.toNat = true) ∧ (0 ≤ d ∧ d ≤ 99)) ∧ v.2.1 3 j.toNat ≠ d ∧ r = some (.int (iI (v.2.1 3 j.toNat))) ∧ MF (g 0) (Lb + 1) (v.1, upD v.2.1 j.toNat d, v.2.2) (undN vu v) vk))) 0 0 := by
  refine Ct.of hE (by decide) (Nat.le_of_ble_eq_true rfl) (fun Φ hLn hΦ F hfr hlo => ?_)
  subst hLn; subst hΦ
  have h414 := F.ok.1.2.2
  have hrc := F.rc
  have hrs := F.rs
  show Wg Φ 4 _ 0 0 0 [(0, _), (1, _), (2, _)] []
  refine w_rng (fun hR => ?_)
  have hb : γ 0 0 0 = (v.1 : Int) := hF.1.1
  have hb2 := hF.2.2.1
  refine w_aload_n F dX8_delay_0 rfl rfl ?_
  refine w_iload_n F dX8_delay_1 rfl ?_
  refine w_callV F (As := [_]) (ct_isJob hE hm γ hb hb2 hj) (lw_V q976 q978 qs45 q88 q979) md_X8_isJob (by omega) cell_mdO rfl rfl rfl rfl (Nat.le_of_ble_eq_true rfl) dX8_delay_2 ⟨by omega, by omega⟩ ⟨by omega, by omega⟩ ?_
  rintro _ _ ⟨rfl, rfl⟩
  refine w_if_eq F (tgt := 18) dX8_delay_5 (by decide) (b2i_R _) (fun h => ?_) (fun h => ?_)
  · rw [b2i_0] at h
    refine w_iconst F dX8_delay_18 ?_
    exact w_iret F (by omega) (by omega) (⟨Off0.rf, Or.inl ⟨fun q => h q.1, rfl, hF.mono (by omega)⟩⟩) dX8_delay_19
  · rw [b2i_n0] at h
    obtain ⟨i, rfl⟩ : ∃ i : Nat, j = (i : Int) := ⟨j.toNat, by omega⟩
    have hi : v.1.testBit i = true := by simpa using h.2.2
    have hT3 : γ 0 3 i = v.2.1 3 i := hF.1.2.2 i hi 3 (by omega) (by omega)
    refine w_iload_n F dX8_delay_8 rfl ?_
    refine w_iconst F dX8_delay_9 ?_
    refine w_bipush F dX8_delay_10 rfl ?_
    refine w_callS F (As := [_, _, _]) (ct_in hE γ hd inR0 (by decide)) (lw_S q980 q981 q88 q982) md_X8_in rfl rfl (Nat.le_of_ble_eq_true rfl) dX8_delay_12 ⟨by omega, by omega⟩ ⟨by omega, by omega⟩ ?_
    rintro _ _ ⟨rfl, rfl⟩
    refine w_if_ne F (tgt := 20) dX8_delay_15 (by decide) (b2i_R _) (fun h2 => ?_) (fun h2 => ?_)
    · rw [b2i_n0] at h2
      refine w_aload_n F dX8_delay_20 rfl rfl ?_
      refine w_get F (by omega) cell_mdO rfl in_X8 3 (by decide) (Or.inl q875) rfl dX8_delay_21 ?_
      refine w_iload_n F dX8_delay_24 rfl ?_
      first | refine w_ialdN F (aM3 _) (by omega) (by decide) (by omega) dX8_delay_25 ?_ | refine w_iald F (aM3 _) (by omega) (by decide) (by omega) (by omega) dX8_delay_25 ?_
      refine w_istore_n F dX8_delay_26 (by decide) rfl (lv' := [(0, _), (1, _), (2, _), (3, _)]) rfl ?_
      refine w_iload_n F dX8_delay_27 rfl ?_
      refine w_iload_n F dX8_delay_28 rfl ?_
      refine w_icmp_ne F (tgt := 35) dX8_delay_29 (by decide) (by first | assumption | exact inR0 | exact (hR _ _ _).1 | (constructor <;> omega)) (by first | assumption | exact inR0 | exact (hR _ _ _).1 | (constructor <;> omega)) (fun h3 => ?_) (fun h3 => ?_)
      · refine w_aload_n F dX8_delay_35 rfl rfl ?_
        refine w_callV F (As := []) (ct_notes hE hm γ hF) (lw_V q1034 q1036 qs56 q88 q1037) md_X8_notes (by omega) cell_mdO rfl rfl rfl rfl (Nat.le_of_ble_eq_true rfl) dX8_delay_36 ⟨by omega, by omega⟩ ⟨by omega, by omega⟩ ?_
        rintro _ g1 ⟨rfl, hF1, o1⟩
        refine w_aload_n F dX8_delay_39 rfl rfl ?_
        refine w_get F (by omega) cell_mdO rfl in_X8 3 (by decide) (Or.inl q875) rfl dX8_delay_40 ?_
        refine w_iload_n F dX8_delay_43 rfl ?_
        refine w_iload_n F dX8_delay_44 rfl ?_
        first | refine w_iastN F (aM3 _) (by omega) (by decide) rfl rfl (by first | assumption | exact inR0 | exact (hR _ _ _).1 | (constructor <;> omega)) (by omega) dX8_delay_45 ?_ | refine w_iast F (aM3 _) (by omega) (by decide) rfl rfl (by first | assumption | exact inR0 | exact (hR _ _ _).1 | (constructor <;> omega)) (by omega) (by omega) dX8_delay_45 ?_
        refine w_iload_n F dX8_delay_46 rfl ?_
        have o2 : Off0 [3] g1 (gu g1 0 3 i d) := Off0.rf.up (by decide)
        have hv2 : MV ((gu g1 0 3 i d) 0) v.1 (upD v.2.1 i d) v.2.2 := by
          obtain ⟨a1, ⟨r, ns, a2, a3, a4⟩, a5⟩ := hF1.1
          refine ⟨by rw [o2.f 0 rfl]; exact a1, ⟨r, ns, by rw [o2.f 5 rfl]; exact a2, a3.off o2 rfl, a4.off o2 rfl⟩, fun q hq f f1 f2 => ?_⟩
          unfold upD
          by_cases e : f = 3 ∧ q = i
          · obtain ⟨rfl, rfl⟩ := e
            rw [gu_s, if_pos ⟨rfl, rfl⟩]
          · rw [gu_n (by omega), if_neg e]
            exact a5 q hq f f1 f2
        exact w_iret F (by omega) (by omega) (⟨(o1.mono (by decide)).tr (o2.mono (by decide)), Or.inr (Or.inr ⟨⟨h, h2⟩, by simp; omega, by rw [hT3]; simp, by simp; exact MF.off (σ := g1 0) hF1 o2 rfl (by omega) (w := (v.1, upD v.2.1 i d, v.2.2)) hv2 hb2 (by rw [o2.f 11 rfl]; have := hF1.2.1; omega)⟩)⟩) dX8_delay_47
      · refine w_bipush F dX8_delay_32 rfl ?_
        exact w_iret F (by omega) (by omega) (⟨Off0.rf, Or.inr (Or.inl ⟨⟨h, h2⟩, by simp; omega, rfl, hF.mono (by omega)⟩)⟩) dX8_delay_34
    · rw [b2i_0] at h2
      refine w_iconst F dX8_delay_18 ?_
      exact w_iret F (by omega) (by omega) (⟨Off0.rf, Or.inl ⟨fun q => h2 q.2, rfl, hF.mono (by omega)⟩⟩) dX8_delay_19
theorem ct_levelM (hE : EOk E) (hm : 438 ≤ E.nk) (γ : GG) {Lb : Int} {v : VV} {vu vk : List VV} (hF : MF (γ 0) Lb v vu vk) (hV : VOk v) : Ct l yX8_level cX8_level 1 (some .int) E 600 36000 [.ref (E.ad 414)] γ (fun r g => Off0 offA γ g ∧ r = some (.int (iI (dmax (bld (keyT v.2.1) (tl v.2.2)) : Int))) ∧ MF (g 0) (Lb + 1) (v.1, v.2.1, bld (keyT v.2.1) (tl v.2.2)) (undN vu v) vk) 0 0 := by
  refine Ct.of hE (by decide) (Nat.le_of_ble_eq_true rfl) (fun Φ hLn hΦ F hfr hlo => ?_)
  subst hLn; subst hΦ
  have h414 := F.ok.1.2.2
  have hrc := F.rc
  have hrs := F.rs
  show Wg Φ 1 _ 0 0 0 [(0, _)] []
  refine w_rng (fun hR => ?_)
  refine w_aload_n F dX8_level_0 rfl rfl ?_
  refine w_callV F (As := []) (ct_notes hE hm γ hF) (lw_V q1034 q1036 qs56 q88 q1037) md_X8_notes (by omega) cell_mdO rfl rfl rfl rfl (Nat.le_of_ble_eq_true rfl) dX8_level_1 ⟨by omega, by omega⟩ ⟨by omega, by omega⟩ ?_
  rintro _ g1 ⟨rfl, hF1, o1⟩
  obtain ⟨a1, ⟨r, ns, a2, a3, a4⟩, a5⟩ := id hF1.1
  have hlen := hV.2.1.len hF1.2.2.1
  have hnl : ns.length + 1 = 2 * (tl v.2.2).length := by rw [a3.len]; exact nn_tl _
  have vS : ∀ i ∈ tl v.2.2, g1 0 2 i = v.2.1 2 i ∧ 0 ≤ g1 0 2 i ∧ g1 0 2 i ≤ 99 := fun i hi => by
    have h5 := (hV.2.1.1 i).mp hi
    rw [a5 i h5 2 (by omega) (by omega)]
    exact ⟨rfl, (hV.1.2 i h5).2.1⟩
  refine w_aload_n F dX8_level_4 rfl rfl ?_
  refine w_aload_n F dX8_level_5 rfl rfl ?_
  refine w_getF F (fM5 _) (by omega) rfl in_X8 (by decide) (Or.inl q877) dX8_level_6 ?_
  refine w_top a2 ?_
  refine w_callV F (As := [_]) (ct_levels hE hm g1 (rest := []) a3 hlen (by simpa using a4) (by simp; omega) (fun i hi => (vS i hi).2)) (lw_V q864 q866 qs43 q88 q867) md_X8_levels (by omega) cell_mdO rfl rfl rfl rfl (Nat.le_of_ble_eq_true rfl) dX8_level_9 ⟨by omega, by omega⟩ ⟨by omega, by omega⟩ ?_
  rintro _ g2 ⟨rfl, n2, r2, u2, _, o2⟩
  have hk : bld (keyM (g1 0)) (tl v.2.2) = bld (keyT v.2.1) (tl v.2.2) := bld_cg (tl_pos _) (fun i hi => by
    unfold keyM keyT
    rw [(vS i hi).1])
  rw [hk] at r2
  simp only [List.append_nil] at u2
  refine w_aload_n F dX8_level_12 rfl rfl ?_
  refine w_callV F (As := []) (ct_deepest hE hm g2 r2 u2 (by rw [tl_bld _ _ _ rfl (tl_pos _)]; exact hlen)) (lw_V q1058 q1060 qs59 q88 q1061) md_X8_deepest (by omega) cell_mdO rfl rfl rfl rfl (Nat.le_of_ble_eq_true rfl) dX8_level_13 ⟨by omega, by omega⟩ ⟨by omega, by omega⟩ ?_
  rintro _ _ ⟨rfl, rfl⟩
  have hv2 : MV (g2 0) v.1 v.2.1 (bld (keyT v.2.1) (tl v.2.2)) := ⟨by rw [o2.f 0 rfl]; exact a1, ⟨r, n2, by rw [o2.f 5 rfl]; exact a2, r2, u2⟩, fun q hq f f1 f2 => by rw [o2 0 f (by simp; omega)]; exact a5 q hq f f1 f2⟩
  exact w_iret F (by omega) (by omega) (⟨(o1.mono (by decide)).tr (o2.mono (by decide)), rfl, MF.off (σ := g2 0) hF1 o2 rfl (by omega) (w := (v.1, v.2.1, bld (keyT v.2.1) (tl v.2.2))) hv2 hF1.2.2.1 (by rw [o2.f 11 rfl]; have := hF1.2.1; omega)⟩) dX8_level_16
end M15
