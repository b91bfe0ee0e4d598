/-! DeadlineTree: soonest, find, found -/
theorem lk_n {R st : Nat → Int} {a b u : Int} : ∀ (t : TT) (S : Nat → Bool), (lk R st a b u t S).1 ≤ nn t
  | .leaf _, S => by
    simp only [lk, nn]
    split <;> exact Nat.le_refl _
  | .branch s x y, S => by
    simp only [lk, nn]
    have h1 := lk_n (R := R) (st := st) (a := a) (b := b) (u := u) x (wo S (bst R S (tl x ++ tl y)))
    have h2 := lk_n (R := R) (st := st) (a := a) (b := b) (u := u) y (wo S (bst R S (tl x ++ tl y)))
    split
    · simp only; omega
    · dsimp only
      split <;> split <;> omega
section D7
variable {l : Launch} {E : EE}
theorem ct_soonestD (hE : EOk E) (γ : GG) {v : VV} {vu vk : List VV} (hF : DF γ v vu vk) (hV : VOk v) {a d : Int} (ha : InR a) (hd : InR d) : Ct l yX0_soonest cX0_soonest 3 (some .int) E 600 36000 [.ref (E.ad 0), .int (iI a), .int (iI d)] γ (pI (if (0 ≤ a ∧ a ≤ 99) ∧ (0 ≤ d ∧ d ≤ 200) then qSoon v a d else -1) γ) 0 0 := by
  refine Ct.of hE (by decide) (Nat.le_of_ble_eq_true rfl) (fun Φ hLn hΦ F hfr hlo => ?_)
  subst hLn; subst hΦ
  have h414 := F.ok.1.2.2
  have hrc := F.rc
  have hrs := F.rs
  show Wg Φ 3 _ 0 0 0 [(0, _), (1, _), (2, _)] []
  refine w_rng (fun hR => ?_)
  have hv := hF.1
  have hJ := hv.jt hV
  obtain ⟨v1, ⟨x, ns, hroot, hr0, hnd, hU⟩, v3⟩ := id hv
  have hx := hr0.lt
  have hnn := nn_23 hr0 hnd
  have no : ¬ ((0 ≤ a ∧ a ≤ 99) ∧ (0 ≤ d ∧ d ≤ 200)) → Wg Φ 3 γ 0 0 24 [(0, .ref (Φ.E.ad 0)), (1, .int (iI a)), (2, .int (iI d))] [] := by
    intro hn
    refine w_iconst F dX0_soonest_24 ?_
    exact w_iret F (by omega) (by omega) (⟨by rw [if_neg hn], rfl⟩) dX0_soonest_25
  refine w_iload_n F dX0_soonest_0 rfl ?_
  refine w_i2l F dX0_soonest_1 (by first | assumption | exact inR0 | exact (hR _ _ _).1 | (constructor <;> omega)) ?_
  refine w_lconst F dX0_soonest_2 ?_
  refine w_topL (z' := 0) rfl ?_
  refine w_ldc2 F q650 dX0_soonest_3 ?_
  refine w_topL (z' := 99) rfl ?_
  refine w_callS F (As := [_, _, _]) (ct_isIn hE γ ha inR0 (by decide)) (lw_S q279 q280 q70 q281) md_X0_isIn rfl rfl (Nat.le_of_ble_eq_true rfl) dX0_soonest_6 ⟨by omega, by omega⟩ ⟨by omega, by omega⟩ ?_
  rintro _ _ ⟨rfl, rfl⟩
  refine w_if_eq F (tgt := 24) dX0_soonest_9 (by decide) (b2i_R _) (fun h => ?_) (fun h => ?_)
  · rw [b2i_0] at h
    exact no (fun q => h q.1)
  · rw [b2i_n0] at h
    refine w_iload_n F dX0_soonest_12 rfl ?_
    refine w_i2l F dX0_soonest_13 (by first | assumption | exact inR0 | exact (hR _ _ _).1 | (constructor <;> omega)) ?_
    refine w_lconst F dX0_soonest_14 ?_
    refine w_topL (z' := 0) rfl ?_
    refine w_ldc2 F q717 dX0_soonest_15 ?_
    refine w_topL (z' := 200) rfl ?_
    refine w_callS F (As := [_, _, _]) (ct_isIn hE γ hd inR0 (by decide)) (lw_S q279 q280 q70 q281) md_X0_isIn rfl rfl (Nat.le_of_ble_eq_true rfl) dX0_soonest_18 ⟨by omega, by omega⟩ ⟨by omega, by omega⟩ ?_
    rintro _ _ ⟨rfl, rfl⟩
    refine w_if_ne F (tgt := 26) dX0_soonest_21 (by decide) (b2i_R _) (fun h2 => ?_) (fun h2 => ?_)
    · rw [b2i_n0] at h2
      refine w_aload_n F dX0_soonest_26 rfl rfl ?_
      refine w_aload_n F dX0_soonest_27 rfl rfl ?_
      refine w_get F (by omega) rfl rfl in_X0 2 (by decide) (Or.inl q542) rfl dX0_soonest_28 ?_
      refine w_getF F (fS2 _ (by omega)) (by omega) rfl in_X1 (by decide) (Or.inr q152) dX0_soonest_31 ?_
      refine w_toN (j := x) hroot ?_
      refine w_iload_n F dX0_soonest_34 rfl ?_
      refine w_iload_n F dX0_soonest_35 rfl ?_
      refine w_callV F (As := [_, _, _]) (ct_soonestOf hE γ ha hd v.2.2 x _ ns hr0 hnn hJ) (lw_V q735 q737 qs26 q70 q738) md_X0_soonestOf (by omega) rfl rfl rfl rfl rfl (Nat.le_of_ble_eq_true rfl) dX0_soonest_36 ⟨by omega, by omega⟩ ⟨by omega, by omega⟩ ?_
      rintro _ _ ⟨rfl, rfl⟩
      refine w_top (sof_soon hV a d) ?_
      exact w_iret F (by omega) (by omega) (⟨by rw [if_pos ⟨h, h2⟩], rfl⟩) dX0_soonest_39
    · rw [b2i_0] at h2
      exact no (fun q => h2 q.2)
theorem ct_findD (hE : EOk E) (γ : GG) {v : VV} {vu vk : List VV} (hF : DF γ v vu vk) (hV : VOk v) {a b d : Int} (ha : InR a) (hb : InR b) (hd : InR d) : Ct l yX0_find cX0_find 4 none E 600 36000 [.ref (E.ad 0), .int (iI a), .int (iI b), .int (iI d)] γ (fun r g => r = none ∧ g 1 11 0 = ((qLk v a b d).1 : Int) ∧ g 1 12 0 = ((qLk v a b d).2.length : Int) ∧ HL (g 1 13) (qLk v a b d).2 ∧ (qLk v a b d).2.length ≤ 12 ∧ OffD [11, 12, 13] γ g) 0 0 := by
  refine Ct.of hE (by decide) (Nat.le_of_ble_eq_true rfl) (fun Φ hLn hΦ F hfr hlo => ?_)
  subst hLn; subst hΦ
  have h414 := F.ok.1.2.2
  have hrc := F.rc
  have hrs := F.rs
  show Wg Φ 4 _ 0 0 0 [(0, _), (1, _), (2, _), (3, _)] []
  refine w_rng (fun hR => ?_)
  have hv := hF.1
  have hJ := hv.jt hV
  obtain ⟨v1, ⟨x, ns, hroot, hr0, hnd, hU⟩, v3⟩ := id hv
  have hx := hr0.lt
  have hnn := nn_23 hr0 hnd
  have hl1 := lk_n (R := rkT v.2.1) (st := v.2.1 2) (a := a) (b := b) (u := d) v.2.2 (fun _ => true)
  have hl2 := lk_len (R := rkT v.2.1) (st := v.2.1 2) (a := a) (b := b) (u := d) v.2.2 (fun _ => true)
  have h12 := hV.2.1.len hV.1.1
  have hcp : (tl v.2.2).countP (fun _ => true) ≤ (tl v.2.2).length := List.countP_le_length
  refine w_aload_n F dX0_find_0 rfl rfl ?_
  refine w_iconst F dX0_find_1 ?_
  refine w_putF F (fD11 _) (by omega) rfl in_X0 tyX0 tyX0_ok nmX0 (by decide) (Or.inl q551) rfl rfl rfl (by first | assumption | exact inR0 | exact (hR _ _ _).1 | (constructor <;> omega)) (fun h => by cases h) (fun h => by cases h) dX0_find_2 ?_
  refine w_aload_n F dX0_find_5 rfl rfl ?_
  refine w_iconst F dX0_find_6 ?_
  refine w_putF F (fD12 _) (by omega) rfl in_X0 tyX0 tyX0_ok nmX0 (by decide) (Or.inl q552) rfl rfl rfl (by first | assumption | exact inR0 | exact (hR _ _ _).1 | (constructor <;> omega)) (fun h => by cases h) (fun h => by cases h) dX0_find_7 ?_
  obtain ⟨g1, hg1⟩ : ∃ z, z = gu (gu γ 1 11 0 0) 1 12 0 0 := ⟨_, rfl⟩
  rw [← hg1]
  have o1 : OffD [11, 12, 13] γ g1 := by rw [hg1]; exact (OffD.rf.up (by decide)).up (by decide)
  have e3 : g1 3 = γ 3 := o1.o 3 (by decide)
  refine w_aload_n F dX0_find_10 rfl rfl ?_
  refine w_aload_n F dX0_find_11 rfl rfl ?_
  refine w_get F (by omega) rfl rfl in_X0 2 (by decide) (Or.inl q542) rfl dX0_find_12 ?_
  refine w_getF F (fS2 _ (by omega)) (by omega) rfl in_X1 (by decide) (Or.inr q152) dX0_find_15 ?_
  refine w_toN (j := x) (by show g1 3 2 0 = _; rw [e3]; exact hroot) ?_
  refine w_iload_n F dX0_find_18 rfl ?_
  refine w_iload_n F dX0_find_19 rfl ?_
  refine w_iload_n F dX0_find_20 rfl ?_
  refine w_callV F (As := [_, _, _, _]) (ct_look hE ha hb hd v.2.2 x (fun _ => true) ns g1 [] 0 (by rw [e3]; exact hr0) hnn (fun i hi => by rw [e3]; exact hJ i hi) (by rw [hg1, gu_f (by decide)]; exact gu_s _ _ _ _ _) (by rw [hg1]; exact gu_s _ _ _ _ _) (HL.nil _) (by simp; omega) (by omega)) (lw_V q722 q724 qs25 q70 q725) md_X0_look (by omega) rfl rfl rfl rfl rfl (Nat.le_of_ble_eq_true rfl) dX0_find_21 ⟨by omega, by omega⟩ ⟨by omega, by omega⟩ ?_
  rintro _ g2 ⟨rfl, d1, d2, d3, d4⟩
  exact w_vret F (by omega) (by omega) (⟨rfl, by rw [d1]; simp [qLk], by rw [d2]; simp [qLk], by unfold qLk; simpa using d3, by show (lk _ _ _ _ _ _ _).2.length ≤ 12; omega, o1.tr d4⟩) dX0_find_24
theorem ct_foundD (hE : EOk E) (γ : GG) {v : VV} {vu vk : List VV} (hF : DF γ v vu vk) (hV : VOk v) {a b d w : Int} (ha : InR a) (hb : InR b) (hd : InR d) (hw : InR w) : Ct l yX0_found cX0_found 5 (some .int) E 700 40000 [.ref (E.ad 0), .int (iI a), .int (iI b), .int (iI d), .int (iI w)] γ (fun r g => OffD [11, 12, 13] γ g ∧ ((¬ okF a b d w ∧ r = some (.int (iI (-1)))) ∨ (okF a b d w ∧ r = some (.int (iI (qFound v a b d w)))))) 0 0 := by
  refine Ct.of hE (by decide) (Nat.le_of_ble_eq_true rfl) (fun Φ hLn hΦ F hfr hlo => ?_)
  subst hLn; subst hΦ
  have h414 := F.ok.1.2.2
  have hrc := F.rc
  have hrs := F.rs
  show Wg Φ 5 _ 0 0 0 [(0, _), (1, _), (2, _), (3, _), (4, _)] []
  refine w_rng (fun hR => ?_)
  have no : ¬ okF a b d w → Wg Φ 5 γ 0 0 27 [(0, .ref (Φ.E.ad 0)), (1, .int (iI a)), (2, .int (iI b)), (3, .int (iI d)), (4, .int (iI w))] [] := by
    intro hn
    refine w_iconst F dX0_found_27 ?_
    exact w_iret F (by omega) (by omega) (⟨OffD.rf, Or.inl ⟨hn, rfl⟩⟩) dX0_found_28
  refine w_iload_n F dX0_found_0 rfl ?_
  refine w_iload_n F dX0_found_1 rfl ?_
  refine w_callS F (As := [_, _]) (ct_areStarts hE γ ha hb) (lw_S q714 q715 q70 q716) md_X0_areStarts rfl rfl (Nat.le_of_ble_eq_true rfl) dX0_found_2 ⟨by omega, by omega⟩ ⟨by omega, by omega⟩ ?_
  rintro _ _ ⟨rfl, rfl⟩
  refine w_if_eq F (tgt := 27) dX0_found_5 (by decide) (b2i_R _) (fun h => ?_) (fun h => ?_)
  · rw [b2i_0] at h
    exact no (fun q => h q.1)
  · rw [b2i_n0] at h
    refine w_iload_n F dX0_found_8 rfl ?_
    refine w_i2l F dX0_found_9 (by first | assumption | exact inR0 | exact (hR _ _ _).1 | (constructor <;> omega)) ?_
    refine w_lconst F dX0_found_10 ?_
    refine w_topL (z' := 0) rfl ?_
    refine w_ldc2 F q717 dX0_found_11 ?_
    refine w_topL (z' := 200) rfl ?_
    refine w_callS F (As := [_, _, _]) (ct_isIn hE γ hd inR0 (by decide)) (lw_S q279 q280 q70 q281) md_X0_isIn rfl rfl (Nat.le_of_ble_eq_true rfl) dX0_found_14 ⟨by omega, by omega⟩ ⟨by omega, by omega⟩ ?_
    rintro _ _ ⟨rfl, rfl⟩
    refine w_if_eq F (tgt := 27) dX0_found_17 (by decide) (b2i_R _) (fun h2 => ?_) (fun h2 => ?_)
    · rw [b2i_0] at h2
      exact no (fun q => h2 q.2.1)
    · rw [b2i_n0] at h2
      refine w_iload F dX0_found_20 rfl ?_
      refine w_bipush F dX0_found_22 rfl ?_
      refine w_icmp_ge F (tgt := 29) dX0_found_24 (by decide) (by first | assumption | exact inR0 | exact (hR _ _ _).1 | (constructor <;> omega)) (by first | assumption | exact inR0 | exact (hR _ _ _).1 | (constructor <;> omega)) (fun h3 => ?_) (fun h3 => ?_)
      · have hok : okF a b d w := ⟨h, h2, h3⟩
        have hl1 := lk_n (R := rkT v.2.1) (st := v.2.1 2) (a := a) (b := b) (u := d) v.2.2 (fun _ => true)
        refine w_aload_n F dX0_found_29 rfl rfl ?_
        refine w_iload_n F dX0_found_30 rfl ?_
        refine w_iload_n F dX0_found_31 rfl ?_
        refine w_iload_n F dX0_found_32 rfl ?_
        refine w_callV F (As := [_, _, _]) (ct_findD hE γ hF hV ha hb hd) (lw_V q718 q720 qs24 q70 q721) md_X0_find (by omega) rfl rfl rfl rfl rfl (Nat.le_of_ble_eq_true rfl) dX0_found_33 ⟨by omega, by omega⟩ ⟨by omega, by omega⟩ ?_
        rintro _ g ⟨rfl, d1, d2, d3, d4, d5⟩
        refine w_iload F dX0_found_36 rfl ?_
        refine w_bipush F dX0_found_38 rfl ?_
        refine w_icmp_ne F (tgt := 50) dX0_found_40 (by decide) (by first | assumption | exact inR0 | exact (hR _ _ _).1 | (constructor <;> omega)) (by first | assumption | exact inR0 | exact (hR _ _ _).1 | (constructor <;> omega)) (fun h4 => ?_) (fun h4 => ?_)
        · refine w_iload F dX0_found_50 rfl ?_
          refine w_if_ge F (tgt := 62) dX0_found_52 (by decide) (by first | assumption | exact inR0 | exact (hR _ _ _).1 | (constructor <;> omega)) (fun h5 => ?_) (fun h5 => ?_)
          · refine w_iload F dX0_found_62 rfl ?_
            refine w_aload_n F dX0_found_64 rfl rfl ?_
            refine w_getF F (fD12 _) (by omega) rfl in_X0 (by decide) (Or.inl q552) dX0_found_65 ?_
            refine w_top d2 ?_
            refine w_icmp_ge F (tgt := 81) dX0_found_68 (by decide) (by first | assumption | exact inR0 | exact (hR _ _ _).1 | (constructor <;> omega)) (by first | assumption | exact inR0 | exact (hR _ _ _).1 | (constructor <;> omega)) (fun h6 => ?_) (fun h6 => ?_)
            · refine w_bipush F dX0_found_81 rfl ?_
              exact w_iret F (by omega) (by omega) (⟨d5, Or.inr ⟨hok, by unfold qFound; rw [if_neg (by omega), if_neg (by omega)]⟩⟩) dX0_found_83
            · obtain ⟨m, hm⟩ : ∃ m : Nat, w = (m : Int) := ⟨w.toNat, by omega⟩
              have hml : m < (qLk v a b d).2.length := by omega
              subst hm
              refine w_aload_n F dX0_found_71 rfl rfl ?_
              refine w_get F (by omega) rfl rfl in_X0 13 (by decide) (Or.inl q553) rfl dX0_found_72 ?_
              refine w_iload F dX0_found_75 rfl ?_
              first | refine w_ialdN F (aD13 _) (by omega) (by decide) (by omega) dX0_found_77 ?_ | refine w_iald F (aD13 _) (by omega) (by decide) (by omega) (by omega) dX0_found_77 ?_
              refine w_top (z' := (qLk v a b d).2.getD m 0) (d3 m _ (by rw [List.getD_eq_getElem?_getD, List.getElem?_eq_getElem hml]; rfl)) ?_
              refine w_goto F (tgt := 83) dX0_found_78 (by decide) ?_
              exact w_iret F (by omega) (by omega) (⟨d5, Or.inr ⟨hok, by unfold qFound; rw [if_neg (by omega), if_pos (by omega)]; rfl⟩⟩) dX0_found_83
          · refine w_aload_n F dX0_found_55 rfl rfl ?_
            refine w_getF F (fD12 _) (by omega) rfl in_X0 (by decide) (Or.inl q552) dX0_found_56 ?_
            refine w_top d2 ?_
            refine w_goto F (tgt := 83) dX0_found_59 (by decide) ?_
            exact w_iret F (by omega) (by omega) (⟨d5, Or.inr ⟨hok, by unfold qFound; rw [if_pos (by omega), if_pos (by omega)]⟩⟩) dX0_found_83
        · refine w_aload_n F dX0_found_43 rfl rfl ?_
          refine w_getF F (fD11 _) (by omega) rfl in_X0 (by decide) (Or.inl q551) dX0_found_44 ?_
          refine w_top d1 ?_
          refine w_goto F (tgt := 83) dX0_found_47 (by decide) ?_
          exact w_iret F (by omega) (by omega) (⟨d5, Or.inr ⟨hok, by unfold qFound; rw [if_pos (by omega), if_neg (by omega)]⟩⟩) dX0_found_83
      · exact no (fun q => by have := q.2.2; omega)
end D7
