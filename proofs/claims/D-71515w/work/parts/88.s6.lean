/-! State: levelled, deepest -/
abbrev offV (ns : List Nat) : Nat → Nat → Prop := fun f i => f = 1 ∨ f = 8 ∨ f = 9 ∨ f = 10 ∨ f = 11 ∨ (21 ≤ f ∧ f ≤ 26 ∧ i ∈ ns)
theorem JC.ofV {T : Nat → Nat → Int} {k j : Nat} {γ g : GG} {ns : List Nat} (h : JC T (γ (2 + k)) j) (o : OffS k (offV ns) γ g) : JC T (g (2 + k)) j := h.cg (fun f h1 h2 => o.s (fun q => by unfold offV at q; omega))
theorem tk_ad {L : List Int} {m j : Nat} (h : L[m]? = some (j : Int)) : (fun i : Nat => (L.take (m + 1)).contains (i : Int)) = ad1 (fun i : Nat => (L.take m).contains (i : Int)) j := by
  funext i
  unfold ad1
  rw [List.take_succ, h]
  simp [List.contains_eq_mem]
  rw [show decide ((i : Int) = (j : Int)) = decide (i = j) by simp only [decide_eq_decide]; omega]
section S6
variable {l : Launch} {E : EE}
theorem ct_levelled (hE : EOk E) (hA : AhOk l E) (γ : GG) {k : Nat} (hk : k < 13) {T : Nat → Nat → Int} {t : TT} {x : Nat} {S : Nat → Bool} {ns us : List Nat} (hr : RC T (γ (2 + k)) t x S ns) (hn : ns.Nodup) (hO : OrdT (keyT T) t) (hN : (tl t).Nodup) (hJ : ∀ i ∈ tl t, JC T (γ (2 + k)) i) (hu : UsC (γ (2 + k)) us) (hus : ∀ z ∈ ns, z ∈ us) : Ct l yX1_levelled cX1_levelled 4 (some (.object "DeadlineTree$Node")) E 700 40000 [.ref (E.ad (11 + 31 * k)), .ref (E.ad (19 + 31 * k + x))] γ (fun r g => ∃ (x' : Nat) (ns' : List Nat), r = some (.ref (E.ad (19 + 31 * k + x'))) ∧ RC T (g (2 + k)) (bld (keyT T) (tl t)) x' S ns' ∧ ns'.Nodup ∧ (∀ z ∈ ns', z ∉ rmv us ns) ∧ UsC (g (2 + k)) (ns' ++ rmv us ns) ∧ OffS k (offV ns') γ g) 0 0 := by
  refine Ct.of hE (by decide) (Nat.le_of_ble_eq_true rfl) (fun Φ hLn hΦ F hfr hlo => ?_)
  subst hLn; subst hΦ
  have h414 := F.ok.1.2.2
  have hrc := F.rc
  have hrs := F.rs
  show Wg Φ 4 _ 0 0 0 [(0, _), (1, _)] []
  refine w_rng (fun hR => ?_)
  have hx := hr.lt
  have hnn := nn_23 hr hn
  have hntl := nn_tl t
  have hpos := tl_pos t
  have hhl := hf_len (R := rkT T) (S := S) hN
  have hh12 := nd_len 12 (tl t) hN (fun z hz => (hJ z hz).1)
  obtain ⟨Lh, hLh⟩ : ∃ q, q = hf (rkT T) t S := ⟨_, rfl⟩
  obtain ⟨_, _, _, un, _⟩ := id hu
  refine w_aload_n F dX1_levelled_0 rfl rfl ?_
  refine w_iconst F dX1_levelled_1 ?_
  refine w_putF F (fS8 _ (by omega)) (by omega) rfl in_X1 tyX1 tyX1_ok nmX1 (by decide) (Or.inl q162) rfl rfl rfl (by first | assumption | exact inR0 | exact (hR _ _ _).1 | (constructor <;> omega)) (noB rfl) (noP rfl) dX1_levelled_2 ?_
  refine w_aload_n F dX1_levelled_5 rfl rfl ?_
  refine w_iconst F dX1_levelled_6 ?_
  refine w_putF F (fS10 _ (by omega)) (by omega) rfl in_X1 tyX1 tyX1_ok nmX1 (by decide) (Or.inl q164) rfl rfl rfl (by first | assumption | exact inR0 | exact (hR _ _ _).1 | (constructor <;> omega)) (noB rfl) (noP rfl) dX1_levelled_7 ?_
  refine w_aload_n F dX1_levelled_10 rfl rfl ?_
  refine w_aload_n F dX1_levelled_11 rfl rfl ?_
  obtain ⟨g0, hg0⟩ : ∃ g, g = gu (gu γ (2 + k) 8 0 0) (2 + k) 10 0 0 := ⟨_, rfl⟩
  have o0 : OffS k offG γ g0 := by rw [hg0]; exact (OffS.rf.up (by unfold offG; omega)).up (by unfold offG; omega)
  rw [← hg0]
  refine w_callV F (As := [_]) (ct_gather hE hk t x S ns us [] [] g0 (hr.gat o0) hn hN (fun i hi => (hJ i hi).1) (hu.cg (by rw [hg0, gu_f (by decide), gu_f (by decide)]) un (fun _ => Iff.rfl)) hus (HL.nil _) (by rw [hg0, gu_f (by decide)]; exact gu_s _ _ _ _ _) (HL.nil _) (by rw [hg0]; exact gu_s _ _ _ _ _) (by simp; omega) (by simp; omega)) (lw_V q512 q514 qs13 q71 q515) md_X1_gather (by omega) (cell_stO (by omega)) rfl rfl rfl rfl (Nat.le_of_ble_eq_true rfl) dX1_levelled_12 ⟨by omega, by omega⟩ ⟨by omega, by omega⟩ ?_
  rintro _ g1 ⟨rfl, b9, b8, b11, b10, bu, o1⟩
  have oG := o0.tr o1
  rw [← hLh] at b11 b10 hhl
  simp only [List.nil_append, List.length_nil, Nat.zero_add] at b9 b8 b11 b10
  have hrl := rmv_len un hn hus
  have hlen := hr.len
  have hul := nd_len 23 us un hu.lt
  refine w_aload_n F dX1_levelled_15 rfl rfl ?_
  refine w_iconst F dX1_levelled_16 ?_
  refine w_aload_n F dX1_levelled_17 rfl rfl ?_
  refine w_getF F (fS8 _ (by omega)) (by omega) rfl in_X1 (by decide) (Or.inl q162) dX1_levelled_18 ?_
  refine w_top (z' := ((0 + (tl t).length : Nat) : Int)) (by rw [b8]; simp) ?_
  refine w_callV F (As := [_, _]) (ct_build hE hk (Lr := tl t) hh12 (tl t).length 0 (rmv us ns) g1 hpos (by omega) b9 (fun i hi => (hJ i hi).gat oG) bu (by omega)) (lw_V q520 q522 qs15 q71 q523) md_X1_build (by omega) (cell_stO (by omega)) rfl rfl rfl rfl (Nat.le_of_ble_eq_true rfl) dX1_levelled_21 ⟨by omega, by omega⟩ ⟨by omega, by omega⟩ ?_
  rintro _ g2 ⟨x', ns', rfl, r2, d2, i2, u2, o2⟩
  have hx' := r2.lt
  rw [show ((tl t).drop 0).take (tl t).length = tl t by simp] at r2
  have htb : tl (bld (keyT T) (tl t)) = tl t := tl_bld _ _ _ rfl hpos
  have hOb := (bld_ord (keyT T) _ (tl t) rfl hpos (ord_srt hO)).1
  have hnn2 := nn_23 r2 d2
  have oV : OffS k (offV ns') γ g2 := (oG.mono (fun f i q => by unfold offG at q; unfold offV; omega)).tr (o2.mono (fun f i q => by
    rcases q with q | q
    · exact Or.inl q.1
    · exact Or.inr (Or.inr (Or.inr (Or.inr (Or.inr q))))))
  have c11 : g2 (2 + k) 11 = g1 (2 + k) 11 := by
    funext z
    exact o2.s (by unfold offB; omega)
  have c10 : g2 (2 + k) 10 0 = (Lh.length : Int) := by rw [o2.s (by unfold offB; omega)]; exact b10
  rw [← c11] at b11
  have hLin : ∀ w ∈ Lh, ∃ j : Nat, w = (j : Int) ∧ j ∈ tl t ∧ S j = true := by rw [hLh]; exact hf_in
  have hLnd : Lh.Nodup := by rw [hLh]; exact hf_nd hN
  have hLm : ∀ j : Nat, (j : Int) ∈ Lh ↔ (j ∈ tl t ∧ S j = true) := fun j => by rw [hLh]; exact hf_mem hN j
  refine w_astore_n F dX1_levelled_24 (by decide) rfl (lv' := [(0, _), (1, _), (2, _)]) rfl rfl ?_
  refine w_iconst F dX1_levelled_25 ?_
  refine w_istore_n F dX1_levelled_26 (by decide) rfl (lv' := [(0, _), (1, _), (2, _), (3, _)]) rfl ?_
  have loop : ∀ (n m : Nat) (g : GG), m ≤ Lh.length → Lh.length - m < n → RC T (g (2 + k)) (bld (keyT T) (tl t)) x' (fun i => (Lh.take m).contains (i : Int)) ns' → OffS k (fun f i => f = 25 ∧ i ∈ ns') g2 g → Wg Φ 4 g 0 0 27 [(0, .ref (Φ.E.ad (11 + 31 * k))), (1, .ref (Φ.E.ad (19 + 31 * k + x))), (2, .ref (Φ.E.ad (19 + 31 * k + x'))), (3, .int (iI (m : Int)))] [] := by
    intro n
    induction n with
    | zero => intro m g a1 a2; omega
    | succ n ih =>
      intro m g a1 a2 a3 a4
      have e11 : g (2 + k) 11 = g2 (2 + k) 11 := by
        funext z
        exact a4.s (by omega)
      refine w_iload_n F dX1_levelled_27 rfl ?_
      refine w_aload_n F dX1_levelled_28 rfl rfl ?_
      refine w_getF F (fS10 _ (by omega)) (by omega) rfl in_X1 (by decide) (Or.inl q164) dX1_levelled_29 ?_
      refine w_top (z' := (Lh.length : Int)) (by rw [a4.s (by omega)]; exact c10) ?_
      refine w_icmp_ge F (tgt := 52) dX1_levelled_32 (by decide) (by first | assumption | exact inR0 | exact (hR _ _ _).1 | (constructor <;> omega)) (by first | assumption | exact inR0 | exact (hR _ _ _).1 | (constructor <;> omega)) (fun h => ?_) (fun h => ?_)
      · have em : m = Lh.length := by omega
        rw [em, List.take_length] at a3
        have hfin : RC T (g (2 + k)) (bld (keyT T) (tl t)) x' S ns' := a3.cgS (fun j hj => ⟨by
          rw [htb] at hj
          have := hLm j
          cases hs : S j with
          | true =>
            rw [List.contains_eq_mem]
            simp [this, hj, hs]
          | false =>
            rw [List.contains_eq_mem]
            simp [this, hs], rfl, fun _ => rfl⟩)
        have oo : OffS k (offV ns') γ g := oV.tr (a4.mono (fun f i q => Or.inr (Or.inr (Or.inr (Or.inr (Or.inr ⟨by omega, by omega, q.2⟩))))))
        refine w_aload_n F dX1_levelled_52 rfl rfl ?_
        exact w_aret F (by first | exact Or.inr ⟨_, rfl⟩ | exact Or.inl rfl | exact rf_or _) (by omega) (by omega) (⟨x', ns', rfl, hfin, d2, i2, u2.cg (a4.s (by omega)) (by obtain ⟨_, _, _, q, _⟩ := id u2; exact q) (fun _ => Iff.rfl), oo⟩) dX1_levelled_53
      · have hml : m < Lh.length := by omega
        obtain ⟨j, q1, q2, q3⟩ := hLin Lh[m] (List.getElem_mem hml)
        have hg? : Lh[m]? = some (j : Int) := by rw [List.getElem?_eq_getElem hml, q1]
        have hJj := hJ j q2
        have j1 := hJj.1
        have hsj : (Lh.take m).contains (j : Int) = false := by
          rw [List.contains_eq_mem]
          simp
          intro hin
          obtain ⟨i, hi, e⟩ := List.mem_take_iff_getElem.mp hin
          have h1 : i < m := by omega
          have := (List.nodup_iff_pairwise_ne.mp hLnd)
          rw [List.pairwise_iff_getElem] at this
          exact this i m (by omega) hml h1 (by rw [e, q1])
        refine w_aload_n F dX1_levelled_35 rfl rfl ?_
        refine w_aload_n F dX1_levelled_36 rfl rfl ?_
        refine w_aload_n F dX1_levelled_37 rfl rfl ?_
        refine w_get F (by omega) (cell_stO (by omega)) rfl in_X1 11 (by decide) (Or.inl q165) rfl dX1_levelled_38 ?_
        refine w_iload_n F dX1_levelled_41 rfl ?_
        first | refine w_baldN F (aS11 _ (by omega)) (by omega) (by decide) (by omega) dX1_levelled_42 ?_ | refine w_bald F (aS11 _ (by omega)) (by omega) (by decide) (by omega) (by omega) dX1_levelled_42 ?_
        refine w_top (z' := (j : Int)) (by rw [e11]; exact b11 m _ hg?) ?_
        refine w_callV F (As := [_, _]) (ct_push hE hA hk (bld (keyT T) (tl t)) x' _ ns' j g a3 d2 hOb (by rw [htb]; exact hN) (fun i hi => ((hJ i (by rw [htb] at hi; exact hi)).ofV oV).off a4 (fun f z w => by omega)) (by rw [htb]; exact q2) hsj) (lw_V q439 q441 qs10 q71 q442) md_X1_push (by omega) (cell_stO (by omega)) rfl rfl rfl rfl (Nat.le_of_ble_eq_true rfl) dX1_levelled_43 ⟨by omega, by omega⟩ ⟨by omega, by omega⟩ ?_
        rintro _ g3 ⟨rfl, r3, o3⟩
        refine w_iinc F dX1_levelled_46 rfl (by decide) rfl (lv' := [(0, _), (1, _), (2, _), (3, _)]) rfl ?_
        refine w_goto F (tgt := 27) dX1_levelled_49 (by decide) ?_
        refine ih (m + 1) g3 (by omega) (by omega) ?_ (a4.tr o3)
        rw [tk_ad hg?]
        exact r3
  refine loop 13 0 g2 (by omega) (by omega) ?_ OffS.rf
  refine r2.cgS (fun j _ => ⟨by simp, rfl, fun _ => rfl⟩)
theorem ct_deepestC (hE : EOk E) {k : Nat} (hk : k < 13) {T : Nat → Nat → Int} (γ : GG) : ∀ (t : TT) (x : Nat) (S : Nat → Bool) (ns : List Nat), RC T (γ (2 + k)) t x S ns → (tl t).length ≤ 12 → Ct l yX1_deepest cX1_deepest 2 (some .int) E (200 + nn t) (20000 + 40 * nn t) [.ref (E.ad (11 + 31 * k)), .ref (E.ad (19 + 31 * k + x))] γ (pI (dmax t : Int) γ) 0 0 := by
  intro t
  induction t with
  | leaf q =>
    intro x S ns hr hl
    refine Ct.of hE (by decide) (Nat.le_of_ble_eq_true rfl) (fun Φ hLn hΦ F hfr hlo => ?_)
    subst hLn; subst hΦ
    have h414 := F.ok.1.2.2
    have hrc := F.rc
    have hrs := F.rs
    show Wg Φ 2 _ 0 0 0 [(0, _), (1, _)] []
    refine w_rng (fun hR => ?_)
    have hx := hr.lt
    have h2 := hr.2.2.1
    refine w_aload_n F dX1_deepest_0 rfl rfl ?_
    refine w_callV F (As := []) (ct_isLeafN hE γ hk hx) (lw_V q422 q423 q424 q72 q425) md_X2_isLeaf (by omega) (cell_nd (by omega) (by omega)) rfl rfl rfl rfl (Nat.le_of_ble_eq_true rfl) dX1_deepest_1 ⟨by omega, by omega⟩ ⟨by omega, by omega⟩ ?_
    rintro _ _ ⟨rfl, rfl⟩
    refine w_if_eq F (tgt := 11) dX1_deepest_4 (by decide) (b2i_R _) (fun h => ?_) (fun h => ?_)
    · rw [b2i_0] at h
      omega
    · refine w_iconst F dX1_deepest_7 ?_
      refine w_goto F (tgt := 32) dX1_deepest_8 (by decide) ?_
      exact w_iret F (by omega) (by omega) (⟨rfl, rfl⟩) dX1_deepest_32
  | branch s a b iha ihb =>
    intro x S ns hr hl
    refine Ct.of hE (by decide) (Nat.le_of_ble_eq_true rfl) (fun Φ hLn hΦ F hfr hlo => ?_)
    subst hLn; subst hΦ
    have h414 := F.ok.1.2.2
    have hrc := F.rc
    have hrs := F.rs
    show Wg Φ 2 _ 0 0 0 [(0, _), (1, _)] []
    refine w_rng (fun hR => ?_)
    have hx := hr.lt
    obtain ⟨xa, xb, na, nb, e, h1, h2, h3, h4, h5, h6, h7, h8⟩ := id hr
    have hxa := h7.lt
    have hxb := h8.lt
    have hnn : nn (.branch s a b) = 1 + nn a + nn b := rfl
    have hll : (tl (.branch s a b)).length = (tl a).length + (tl b).length := by simp [tl]
    have d1 := dmax_lt a
    have d2 := dmax_lt b
    refine w_aload_n F dX1_deepest_0 rfl rfl ?_
    refine w_callV F (As := []) (ct_isLeafN hE γ hk hx) (lw_V q422 q423 q424 q72 q425) md_X2_isLeaf (by omega) (cell_nd (by omega) (by omega)) rfl rfl rfl rfl (Nat.le_of_ble_eq_true rfl) dX1_deepest_1 ⟨by omega, by omega⟩ ⟨by omega, by omega⟩ ?_
    rintro _ _ ⟨rfl, rfl⟩
    refine w_if_eq F (tgt := 11) dX1_deepest_4 (by decide) (b2i_R _) (fun h => ?_) (fun h => ?_)
    · refine w_iconst F dX1_deepest_11 ?_
      refine w_aload_n F dX1_deepest_12 rfl rfl ?_
      refine w_aload_n F dX1_deepest_13 rfl rfl ?_
      refine w_getF F (fN1 _ (by omega) (by omega)) (by omega) rfl in_X2 (by decide) (Or.inr q116) dX1_deepest_14 ?_
      refine w_toN h2 ?_
      refine w_callV F (As := [_]) (iha xa _ na h7 (by omega)) (lw_V q701 q702 q703 q71 q704) md_X1_deepest (by omega) (cell_stO (by omega)) rfl rfl rfl rfl (Nat.le_of_ble_eq_true rfl) dX1_deepest_17 ⟨by omega, by omega⟩ ⟨by omega, by omega⟩ ?_
      rintro _ _ ⟨rfl, rfl⟩
      refine w_aload_n F dX1_deepest_20 rfl rfl ?_
      refine w_aload_n F dX1_deepest_21 rfl rfl ?_
      refine w_getF F (fN2 _ (by omega) (by omega)) (by omega) rfl in_X2 (by decide) (Or.inr q118) dX1_deepest_22 ?_
      refine w_toN h3 ?_
      refine w_callV F (As := [_]) (ihb xb _ nb h8 (by omega)) (lw_V q701 q702 q703 q71 q704) md_X1_deepest (by omega) (cell_stO (by omega)) rfl rfl rfl rfl (Nat.le_of_ble_eq_true rfl) dX1_deepest_25 ⟨by omega, by omega⟩ ⟨by omega, by omega⟩ ?_
      rintro _ _ ⟨rfl, rfl⟩
      refine w_callS F (As := [_, _]) (ct_max hE γ (by omega) (by omega)) (lw_S q705 q468 q86 q469) md_J8_max rfl rfl (Nat.le_of_ble_eq_true rfl) dX1_deepest_28 ⟨by omega, by omega⟩ ⟨by omega, by omega⟩ ?_
      rintro _ _ ⟨rfl, rfl⟩
      refine w_iadd F dX1_deepest_31 ?_
      refine w_top (z' := (dmax (.branch s a b) : Int)) (by simp only [dmax]; omega) ?_
      exact w_iret F (by omega) (by omega) (⟨rfl, rfl⟩) dX1_deepest_32
    · rw [b2i_n0] at h
      omega
end S6
