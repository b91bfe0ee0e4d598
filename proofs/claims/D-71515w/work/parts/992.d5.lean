/-! DeadlineTree: soonestOf, soonest -/
def InL (L : List Nat) (z : Int) : Prop := z = -4 ∨ ∃ i ∈ L, z = (i : Int)
theorem lfO_in {st : Nat → Int} {L : List Nat} {u v : Int} (hu : InL L u) (hv : InL L v) : InL L (lfO st u v) := by
  unfold lfO
  split
  · rcases Int.le_total u v with h | h
    · rw [Int.max_eq_right h]; exact hv
    · rw [Int.max_eq_left h]; exact hu
  · split
    · exact hu
    · exact hv
theorem bst_in (R : Nat → Int) (S : Nat → Bool) (L : List Nat) : InL L (bst R S L) := by
  rcases (bst_spec R S L).in with q | ⟨i, q, q1⟩
  · exact Or.inl q
  · exact Or.inr ⟨i, q1.1, q⟩
theorem InL.mono {L M : List Nat} {z : Int} (h : InL L z) (hs : ∀ i ∈ L, i ∈ M) : InL M z := by
  rcases h with q | ⟨i, q, q1⟩
  · exact Or.inl q
  · exact Or.inr ⟨i, hs i q, q1⟩
theorem InL.ite {L : List Nat} {z : Int} {p : Prop} [Decidable p] (h : InL L z) : InL L (if p then z else -4) := by
  split
  · exact h
  · exact Or.inl rfl
theorem sof_in {R st : Nat → Int} {κ : Nat → Nat} {a u : Int} : ∀ (t : TT) (S : Nat → Bool), InL (tl t) (sof R st κ a u t S)
  | .leaf j, S => by
    simp only [sof]
    split
    · exact Or.inl rfl
    · exact (bst_in R S [j]).ite
  | .branch s x y, S => by
    simp only [sof]
    split
    · exact Or.inl rfl
    · have h1 : InL (tl (.branch s x y)) (lfO st (if a ≤ st (bst R S (tl x ++ tl y)).toNat then bst R S (tl x ++ tl y) else -4) (if a ≤ ((s / 16 : Nat) : Int) then sof R st κ a u x (wo S (bst R S (tl x ++ tl y))) else -4)) := lfO_in (bst_in R S (tl x ++ tl y)).ite ((sof_in x _).mono (fun i hi => List.mem_append_left _ hi)).ite
      obtain ⟨b1, hb⟩ : ∃ q, q = lfO st (if a ≤ st (bst R S (tl x ++ tl y)).toNat then bst R S (tl x ++ tl y) else -4) (if a ≤ ((s / 16 : Nat) : Int) then sof R st κ a u x (wo S (bst R S (tl x ++ tl y))) else -4) := ⟨_, rfl⟩
      rw [← hb] at h1 ⊢
      split
      · exact h1
      · exact lfO_in h1 ((sof_in y _).mono (fun i hi => List.mem_append_right _ hi))
section D5
variable {l : Launch} {E : EE}
theorem ct_soonestOf (hE : EOk E) {T : Nat → Nat → Int} (γ : GG) {a d : Int} (ha : InR a) (hd : InR d) : ∀ (t : TT) (x : Nat) (S : Nat → Bool) (ns : List Nat), RC T (γ 3) t x S ns → nn t ≤ 23 → (∀ i ∈ tl t, JC T (γ 3) i) → Ct l yX0_soonestOf cX0_soonestOf 6 (some .int) E (500 + nn t) (32000 + 60 * nn t) [.ref (E.ad 0), .ref (E.ad (19 + 31 * 1 + x)), .int (iI a), .int (iI d)] γ (pI (sof (rkT T) (T 2) (keyT T) a d t S) γ) 0 0 := by
  intro t
  induction t with
  | leaf q =>
    intro x S ns hr hl0 hJ
    refine Ct.of hE (by decide) (Nat.le_of_ble_eq_true rfl) (fun Φ hLn hΦ F hfr hlo => ?_)
    subst hLn; subst hΦ
    have h414 := F.ok.1.2.2
    have hrc := F.rc
    have hrs := F.rs
    show Wg Φ 6 _ 0 0 0 [(0, _), (1, _), (2, _), (3, _)] []
    refine w_rng (fun hR => ?_)
    have hx := hr.lt
    obtain ⟨e, h1, h2, h3, h4, h5, h6, h7⟩ := id hr
    by_cases h0 : bst (rkT T) S [q] = -4
    · refine w_aload_n F dX0_soonestOf_0 rfl rfl ?_
      refine w_getF F (fN5 _ (by omega) (by omega)) (by omega) rfl in_X2 (by decide) (Or.inr q127) dX0_soonestOf_1 ?_
      refine w_top (z' := -4) (by show γ 3 25 x = -4; rw [h7]; exact h0) ?_
      refine w_istore F dX0_soonestOf_4 (by decide) rfl (lv' := [(0, _), (1, _), (2, _), (3, _), (4, _)]) rfl ?_
      refine w_iload F dX0_soonestOf_6 rfl ?_
      refine w_bipush F dX0_soonestOf_8 rfl ?_
      refine w_icmp_eq F (tgt := 26) dX0_soonestOf_10 (by decide) (by first | assumption | exact inR0 | exact (hR _ _ _).1 | (constructor <;> omega)) (by first | assumption | exact inR0 | exact (hR _ _ _).1 | (constructor <;> omega)) (fun h => ?_) (fun h => ?_)
      · refine w_bipush F dX0_soonestOf_26 rfl ?_
        refine w_top (z' := sof (rkT T) (T 2) (keyT T) a d (.leaf q) S) (by simp only [sof]; rw [if_pos (Or.inl h0)]) ?_
        exact w_iret F (by omega) (by omega) (⟨rfl, rfl⟩) dX0_soonestOf_28
      · omega
    · obtain ⟨i, w1, w2, w3⟩ := bst_nat h0
      have hJi := hJ i (by simpa [tl] using w2)
      have i1 := hJi.1
      have si : γ 3 5 i = T 2 i := hJi.2.1.2.1
      have bi := hJi.2.2.2.1
      have bk := rk_in (k := T 1 i) (ln := T 4 i) (d := T 3 i) (by have := hJi.2.2.2.2.1; omega) (by have := hJi.2.2.2.2.1; omega) (by have := hJi.2.2.2.2.2; omega) (by have := hJi.2.2.2.2.2; omega)
      have bk : 0 ≤ rkT T i ∧ rkT T i ≤ 1100 := bk
      have es : sof (rkT T) (T 2) (keyT T) a d (.leaf q) S = if d < rkT T i then -4 else if a ≤ T 2 i then (i : Int) else -4 := by
        simp only [sof]
        rw [w1]
        by_cases hh : d < rkT T i
        · rw [if_pos (Or.inr (by simpa using hh)), if_pos hh]
        · rw [if_neg (by simp; omega), if_neg hh]
          simp
      refine w_aload_n F dX0_soonestOf_0 rfl rfl ?_
      refine w_getF F (fN5 _ (by omega) (by omega)) (by omega) rfl in_X2 (by decide) (Or.inr q127) dX0_soonestOf_1 ?_
      refine w_top (z' := (i : Int)) (by show γ 3 25 x = _; rw [h7]; exact w1) ?_
      refine w_istore F dX0_soonestOf_4 (by decide) rfl (lv' := [(0, _), (1, _), (2, _), (3, _), (4, _)]) rfl ?_
      refine w_iload F dX0_soonestOf_6 rfl ?_
      refine w_bipush F dX0_soonestOf_8 rfl ?_
      refine w_icmp_eq F (tgt := 26) dX0_soonestOf_10 (by decide) (by first | assumption | exact inR0 | exact (hR _ _ _).1 | (constructor <;> omega)) (by first | assumption | exact inR0 | exact (hR _ _ _).1 | (constructor <;> omega)) (fun h => ?_) (fun h => ?_)
      · omega
      · refine w_aload_n F dX0_soonestOf_13 rfl rfl ?_
        refine w_get F (by omega) rfl rfl in_X0 2 (by decide) (Or.inl q542) rfl dX0_soonestOf_14 ?_
        refine w_iload F dX0_soonestOf_17 rfl ?_
        refine w_callV F (As := [_]) (ct_rankS hE γ (k := 1) (j := i) (by omega) hJi) (lw_V q609 q448 q449 q71 q450) md_X1_rank (by omega) (cell_stO (by omega)) rfl rfl rfl rfl (Nat.le_of_ble_eq_true rfl) dX0_soonestOf_19 ⟨by omega, by omega⟩ ⟨by omega, by omega⟩ ?_
        rintro _ _ ⟨rfl, rfl⟩
        refine w_iload_n F dX0_soonestOf_22 rfl ?_
        refine w_icmp_le F (tgt := 29) dX0_soonestOf_23 (by decide) (by first | assumption | exact inR0 | exact (hR _ _ _).1 | (constructor <;> omega)) (by first | assumption | exact inR0 | exact (hR _ _ _).1 | (constructor <;> omega)) (fun h8 => ?_) (fun h8 => ?_)
        · rw [if_neg (by omega)] at es
          have mid : ∀ z : Int, z = (if a ≤ T 2 i then (i : Int) else -4) → Wg Φ 6 γ 0 0 50 [(0, .ref (Φ.E.ad 0)), (1, .ref (Φ.E.ad (19 + 31 * 1 + x))), (2, .int (iI a)), (3, .int (iI d)), (4, .int (iI (i : Int)))] [.int (iI z)] := by
            intro z hz
            refine w_istore F dX0_soonestOf_50 (by decide) rfl (lv' := [(0, _), (1, _), (2, _), (3, _), (4, _), (5, _)]) rfl ?_
            refine w_aload_n F dX0_soonestOf_52 rfl rfl ?_
            refine w_callV F (As := []) (ct_isLeafN hE γ (k := 1) (by omega) hx) (lw_V q610 q423 q424 q72 q425) md_X2_isLeaf (by omega) (cell_nd (by omega) (by omega)) rfl rfl rfl rfl (Nat.le_of_ble_eq_true rfl) dX0_soonestOf_53 ⟨by omega, by omega⟩ ⟨by omega, by omega⟩ ?_
            rintro _ _ ⟨rfl, rfl⟩
            refine w_if_eq F (tgt := 62) dX0_soonestOf_56 (by decide) (b2i_R _) (fun h9 => ?_) (fun h9 => ?_)
            · rw [b2i_0] at h9
              exact absurd (show γ (2 + 1) 21 x < 0 by show γ 3 21 x < 0; omega) h9
            · refine w_iload F dX0_soonestOf_59 rfl ?_
              exact w_iret F (by omega) (by omega) (⟨by rw [es, hz], rfl⟩) dX0_soonestOf_61
          refine w_aload_n F dX0_soonestOf_29 rfl rfl ?_
          refine w_get F (by omega) rfl rfl in_X0 2 (by decide) (Or.inl q542) rfl dX0_soonestOf_30 ?_
          refine w_get F (by omega) (cell_stO (by omega)) rfl in_X1 5 (by decide) (Or.inr q157) rfl dX0_soonestOf_33 ?_
          refine w_iload F dX0_soonestOf_36 rfl ?_
          first | refine w_baldN F (aS5 _ (by omega)) (by omega) (by decide) (by omega) dX0_soonestOf_38 ?_ | refine w_bald F (aS5 _ (by omega)) (by omega) (by decide) (by omega) (by omega) dX0_soonestOf_38 ?_
          refine w_top (z' := T 2 i) si ?_
          refine w_iload_n F dX0_soonestOf_39 rfl ?_
          refine w_icmp_lt F (tgt := 48) dX0_soonestOf_40 (by decide) (by first | assumption | exact inR0 | exact (hR _ _ _).1 | (constructor <;> omega)) (by first | assumption | exact inR0 | exact (hR _ _ _).1 | (constructor <;> omega)) (fun h10 => ?_) (fun h10 => ?_)
          · refine w_bipush F dX0_soonestOf_48 rfl ?_
            exact mid (-4) (by rw [if_neg (by omega)])
          · refine w_iload F dX0_soonestOf_43 rfl ?_
            refine w_goto F (tgt := 50) dX0_soonestOf_45 (by decide) ?_
            exact mid (i : Int) (by rw [if_pos (by omega)])
        · rw [if_pos (by omega)] at es
          refine w_bipush F dX0_soonestOf_26 rfl ?_
          exact w_iret F (by omega) (by omega) (⟨by rw [es], rfl⟩) dX0_soonestOf_28
  | branch s ta tb iha ihb =>
    intro x S ns hr hl0 hJ
    refine Ct.of hE (by decide) (Nat.le_of_ble_eq_true rfl) (fun Φ hLn hΦ F hfr hlo => ?_)
    subst hLn; subst hΦ
    have h414 := F.ok.1.2.2
    have hrc := F.rc
    have hrs := F.rs
    show Wg Φ 6 _ 0 0 0 [(0, _), (1, _), (2, _), (3, _)] []
    refine w_rng (fun hR => ?_)
    have hx := hr.lt
    obtain ⟨xa, xb, na, nb, e, h1, h2, h3, h4, h5, h6, h7, h8⟩ := id hr
    have hxa := h7.lt
    have hxb := h8.lt
    have hnn : nn (.branch s ta tb) = 1 + nn ta + nn tb := rfl
    have hs16 : ((s / 16 : Nat) : Int) = γ 3 23 x := by omega
    by_cases h0 : bst (rkT T) S (tl ta ++ tl tb) = -4
    · refine w_aload_n F dX0_soonestOf_0 rfl rfl ?_
      refine w_getF F (fN5 _ (by omega) (by omega)) (by omega) rfl in_X2 (by decide) (Or.inr q127) dX0_soonestOf_1 ?_
      refine w_top (z' := -4) (by show γ 3 25 x = -4; rw [h6]; exact h0) ?_
      refine w_istore F dX0_soonestOf_4 (by decide) rfl (lv' := [(0, _), (1, _), (2, _), (3, _), (4, _)]) rfl ?_
      refine w_iload F dX0_soonestOf_6 rfl ?_
      refine w_bipush F dX0_soonestOf_8 rfl ?_
      refine w_icmp_eq F (tgt := 26) dX0_soonestOf_10 (by decide) (by first | assumption | exact inR0 | exact (hR _ _ _).1 | (constructor <;> omega)) (by first | assumption | exact inR0 | exact (hR _ _ _).1 | (constructor <;> omega)) (fun h => ?_) (fun h => ?_)
      · refine w_bipush F dX0_soonestOf_26 rfl ?_
        refine w_top (z' := sof (rkT T) (T 2) (keyT T) a d (.branch s ta tb) S) (by simp only [sof]; rw [if_pos (Or.inl h0)]) ?_
        exact w_iret F (by omega) (by omega) (⟨rfl, rfl⟩) dX0_soonestOf_28
      · omega
    · obtain ⟨i, w1, w2, w3⟩ := bst_nat h0
      have hJi := hJ i w2
      have i1 := hJi.1
      have si : γ 3 5 i = T 2 i := hJi.2.1.2.1
      have bi := hJi.2.2.2.1
      have bk := rk_in (k := T 1 i) (ln := T 4 i) (d := T 3 i) (by have := hJi.2.2.2.2.1; omega) (by have := hJi.2.2.2.2.1; omega) (by have := hJi.2.2.2.2.2; omega) (by have := hJi.2.2.2.2.2; omega)
      have bk : 0 ≤ rkT T i ∧ rkT T i ≤ 1100 := bk
      rw [w1] at h7 h8
      obtain ⟨vl, hvl⟩ : ∃ q, q = sof (rkT T) (T 2) (keyT T) a d ta (wo S (i : Int)) := ⟨_, rfl⟩
      obtain ⟨vr, hvr⟩ : ∃ q, q = sof (rkT T) (T 2) (keyT T) a d tb (wo S (i : Int)) := ⟨_, rfl⟩
      obtain ⟨b0, hb0⟩ : ∃ q, q = (if a ≤ T 2 i then (i : Int) else -4) := ⟨_, rfl⟩
      obtain ⟨v1, hv1⟩ : ∃ q, q = (if a ≤ ((s / 16 : Nat) : Int) then vl else -4) := ⟨_, rfl⟩
      have il : InL (tl (.branch s ta tb)) vl := by rw [hvl]; exact (sof_in ta _).mono (fun i hi => List.mem_append_left _ hi)
      have ir : InL (tl (.branch s ta tb)) vr := by rw [hvr]; exact (sof_in tb _).mono (fun i hi => List.mem_append_right _ hi)
      have ib0 : InL (tl (.branch s ta tb)) b0 := by rw [hb0]; exact InL.ite (Or.inr ⟨i, w2, rfl⟩)
      have iv1 : InL (tl (.branch s ta tb)) v1 := by rw [hv1]; exact il.ite
      have ib1 := lfO_in (st := T 2) ib0 iv1
      have toJ : ∀ z, InL (tl (.branch s ta tb)) z → z = -4 ∨ ∃ i : Nat, z = (i : Int) ∧ JC T (γ 3) i := fun z hz => by
        rcases hz with q | ⟨i, q, q1⟩
        · exact Or.inl q
        · exact Or.inr ⟨i, q1, hJ i q⟩
      have es : sof (rkT T) (T 2) (keyT T) a d (.branch s ta tb) S = if d < rkT T i then -4 else if lfO (T 2) b0 v1 ≠ -4 ∧ keyT T (lfO (T 2) b0 v1).toNat ≤ s then lfO (T 2) b0 v1 else lfO (T 2) (lfO (T 2) b0 v1) vr := by
        simp only [sof]
        rw [w1]
        by_cases hh : d < rkT T i
        · rw [if_pos (Or.inr (by simpa using hh)), if_pos hh]
        · rw [if_neg (by simp; omega), if_neg hh, hb0, hv1, hvl, hvr]
          simp
      obtain ⟨b1, hb1⟩ : ∃ q, q = lfO (T 2) b0 v1 := ⟨_, rfl⟩
      rw [← hb1] at es ib1
      have fin124 : ¬ (b1 ≠ -4 ∧ keyT T b1.toNat ≤ s) → rkT T i ≤ d → Wg Φ 6 γ 0 0 124 [(0, .ref (Φ.E.ad 0)), (1, .ref (Φ.E.ad (19 + 31 * 1 + x))), (2, .int (iI a)), (3, .int (iI d)), (5, .int (iI b1))] [] := by
        intro hn hrd
        rw [if_neg (by omega), if_neg hn] at es
        refine w_aload_n F dX0_soonestOf_124 rfl rfl ?_
        refine w_iload F dX0_soonestOf_125 rfl ?_
        refine w_aload_n F dX0_soonestOf_127 rfl rfl ?_
        refine w_aload_n F dX0_soonestOf_128 rfl rfl ?_
        refine w_getF F (fN2 _ (by omega) (by omega)) (by omega) rfl in_X2 (by decide) (Or.inr q120) dX0_soonestOf_129 ?_
        refine w_toN (j := xb) h3 ?_
        refine w_iload_n F dX0_soonestOf_132 rfl ?_
        refine w_iload_n F dX0_soonestOf_133 rfl ?_
        refine w_callV F (As := [_, _, _]) (ihb xb (wo S (i : Int)) nb h8 (by omega) (fun q hq => hJ q (List.mem_append_right _ hq))) (lw_V q735 q737 qs26 q70 q738) md_X0_soonestOf (by omega) rfl rfl rfl rfl rfl (Nat.le_of_ble_eq_true rfl) dX0_soonestOf_134 ⟨by omega, by omega⟩ ⟨by omega, by omega⟩ ?_
        rintro _ _ ⟨rfl, rfl⟩
        rw [← hvr]
        refine w_callV F (As := [_, _]) (ct_leftOf hE γ (toJ _ ib1) (toJ _ ir)) (lw_V q739 q741 qs27 q70 q742) md_X0_leftOf (by omega) rfl rfl rfl rfl rfl (Nat.le_of_ble_eq_true rfl) dX0_soonestOf_137 ⟨by omega, by omega⟩ ⟨by omega, by omega⟩ ?_
        rintro _ _ ⟨rfl, rfl⟩
        exact w_iret F (by omega) (by omega) (⟨by rw [es], rfl⟩) dX0_soonestOf_140
      have fin88 : rkT T i ≤ d → Wg Φ 6 γ 0 0 88 [(0, .ref (Φ.E.ad 0)), (1, .ref (Φ.E.ad (19 + 31 * 1 + x))), (2, .int (iI a)), (3, .int (iI d)), (5, .int (iI b0))] [.int (iI v1), .int (iI b0), .ref (Φ.E.ad 0)] := by
        intro hrd
        refine w_callV F (As := [_, _]) (ct_leftOf hE γ (toJ _ ib0) (toJ _ iv1)) (lw_V q739 q741 qs27 q70 q742) md_X0_leftOf (by omega) rfl rfl rfl rfl rfl (Nat.le_of_ble_eq_true rfl) dX0_soonestOf_88 ⟨by omega, by omega⟩ ⟨by omega, by omega⟩ ?_
        rintro _ _ ⟨rfl, rfl⟩
        rw [← hb1]
        by_cases hb4 : b1 = -4
        · refine w_istore F dX0_soonestOf_91 (by decide) rfl (lv' := [(0, _), (1, _), (2, _), (3, _), (5, _)]) rfl ?_
          refine w_iload F dX0_soonestOf_93 rfl ?_
          refine w_bipush F dX0_soonestOf_95 rfl ?_
          refine w_icmp_eq F (tgt := 124) dX0_soonestOf_97 (by decide) (by omega) (by first | assumption | exact inR0 | exact (hR _ _ _).1 | (constructor <;> omega)) (fun h9 => ?_) (fun h9 => ?_)
          · exact fin124 (fun q => q.1 hb4) hrd
          · omega
        · obtain ⟨m, m1, m2⟩ := ib1.resolve_left hb4
          have hJm := hJ m m1
          have m12 := hJm.1
          have sm : γ 3 5 m = T 2 m := hJm.2.1.2.1
          have bm := hJm.2.2.2.1
          have hgl := gl_key (γ := γ) (k := 1) (x := x) (T := T) (s := s) (j := m) h4 m12 bm.1
          refine w_top m2 ?_
          refine w_istore F dX0_soonestOf_91 (by decide) rfl (lv' := [(0, _), (1, _), (2, _), (3, _), (5, _)]) rfl ?_
          refine w_iload F dX0_soonestOf_93 rfl ?_
          refine w_bipush F dX0_soonestOf_95 rfl ?_
          refine w_icmp_eq F (tgt := 124) dX0_soonestOf_97 (by decide) (by first | assumption | exact inR0 | exact (hR _ _ _).1 | (constructor <;> omega)) (by first | assumption | exact inR0 | exact (hR _ _ _).1 | (constructor <;> omega)) (fun h9 => ?_) (fun h9 => ?_)
          · omega
          · refine w_aload_n F dX0_soonestOf_100 rfl rfl ?_
            refine w_aload_n F dX0_soonestOf_101 rfl rfl ?_
            refine w_get F (by omega) rfl rfl in_X0 2 (by decide) (Or.inl q542) rfl dX0_soonestOf_102 ?_
            refine w_get F (by omega) (cell_stO (by omega)) rfl in_X1 5 (by decide) (Or.inr q157) rfl dX0_soonestOf_105 ?_
            refine w_iload F dX0_soonestOf_108 rfl ?_
            first | refine w_baldN F (aS5 _ (by omega)) (by omega) (by decide) (by omega) dX0_soonestOf_110 ?_ | refine w_bald F (aS5 _ (by omega)) (by omega) (by decide) (by omega) (by omega) dX0_soonestOf_110 ?_
            refine w_top (z' := T 2 m) sm ?_
            refine w_iload F dX0_soonestOf_111 rfl ?_
            refine w_callV F (As := [_, _]) (ct_goesLeft hE γ (k := 1) (by omega) hx (s := T 2 m) (j := (m : Int)) (by omega) (by omega)) (lw_V q744 q435 q436 q72 q437) md_X2_goesLeft (by omega) (cell_nd (by omega) (by omega)) rfl rfl rfl rfl (Nat.le_of_ble_eq_true rfl) dX0_soonestOf_113 ⟨by omega, by omega⟩ ⟨by omega, by omega⟩ ?_
            rintro _ _ ⟨rfl, rfl⟩
            refine w_if_eq F (tgt := 124) dX0_soonestOf_116 (by decide) (b2i_R _) (fun h10 => ?_) (fun h10 => ?_)
            · rw [b2i_0] at h10
              rw [← m2]
              exact fin124 (fun q => h10 (hgl.mpr (by have := q.2; rw [m2] at this; simpa using this))) hrd
            · rw [b2i_n0] at h10
              rw [if_neg (by omega), if_pos ⟨hb4, by rw [m2]; simpa using hgl.mp h10⟩] at es
              refine w_iload F dX0_soonestOf_119 rfl ?_
              refine w_goto F (tgt := 140) dX0_soonestOf_121 (by decide) ?_
              exact w_iret F (by omega) (by omega) (⟨by rw [es, m2], rfl⟩) dX0_soonestOf_140
      have fin50 : rkT T i ≤ d → Wg Φ 6 γ 0 0 50 [(0, .ref (Φ.E.ad 0)), (1, .ref (Φ.E.ad (19 + 31 * 1 + x))), (2, .int (iI a)), (3, .int (iI d)), (4, .int (iI (i : Int)))] [.int (iI b0)] := by
        intro hrd
        refine w_istore F dX0_soonestOf_50 (by decide) rfl (lv' := [(0, _), (1, _), (2, _), (3, _), (4, _), (5, _)]) rfl ?_
        refine w_aload_n F dX0_soonestOf_52 rfl rfl ?_
        refine w_callV F (As := []) (ct_isLeafN hE γ (k := 1) (by omega) hx) (lw_V q610 q423 q424 q72 q425) md_X2_isLeaf (by omega) (cell_nd (by omega) (by omega)) rfl rfl rfl rfl (Nat.le_of_ble_eq_true rfl) dX0_soonestOf_53 ⟨by omega, by omega⟩ ⟨by omega, by omega⟩ ?_
        rintro _ _ ⟨rfl, rfl⟩
        refine w_if_eq F (tgt := 62) dX0_soonestOf_56 (by decide) (b2i_R _) (fun h9 => ?_) (fun h9 => ?_)
        · refine w_aload_n F dX0_soonestOf_62 rfl rfl ?_
          refine w_iload F dX0_soonestOf_63 rfl ?_
          refine w_aload_n F dX0_soonestOf_65 rfl rfl ?_
          refine w_getF F (fN3 _ (by omega) (by omega)) (by omega) rfl in_X2 (by decide) (Or.inr q123) dX0_soonestOf_66 ?_
          refine w_top (z' := γ 3 23 x) rfl ?_
          refine w_iload_n F dX0_soonestOf_69 rfl ?_
          refine w_icmp_lt F (tgt := 86) dX0_soonestOf_70 (by decide) (by first | assumption | exact inR0 | exact (hR _ _ _).1 | (constructor <;> omega)) (by first | assumption | exact inR0 | exact (hR _ _ _).1 | (constructor <;> omega)) (fun h10 => ?_) (fun h10 => ?_)
          · refine w_bipush F dX0_soonestOf_86 rfl ?_
            rw [hs16, if_neg (by omega)] at hv1
            rw [← hv1]
            refine w_keep [0, 1, 2, 3, 5] (lv' := [(0, _), (1, _), (2, _), (3, _), (5, _)]) rfl ?_
            exact fin88 hrd
          · refine w_aload_n F dX0_soonestOf_73 rfl rfl ?_
            refine w_aload_n F dX0_soonestOf_74 rfl rfl ?_
            refine w_getF F (fN1 _ (by omega) (by omega)) (by omega) rfl in_X2 (by decide) (Or.inr q117) dX0_soonestOf_75 ?_
            refine w_toN (j := xa) h2 ?_
            refine w_iload_n F dX0_soonestOf_78 rfl ?_
            refine w_iload_n F dX0_soonestOf_79 rfl ?_
            refine w_callV F (As := [_, _, _]) (iha xa (wo S (i : Int)) na h7 (by omega) (fun q hq => hJ q (List.mem_append_left _ hq))) (lw_V q735 q737 qs26 q70 q738) md_X0_soonestOf (by omega) rfl rfl rfl rfl rfl (Nat.le_of_ble_eq_true rfl) dX0_soonestOf_80 ⟨by omega, by omega⟩ ⟨by omega, by omega⟩ ?_
            rintro _ _ ⟨rfl, rfl⟩
            rw [← hvl]
            refine w_goto F (tgt := 88) dX0_soonestOf_83 (by decide) ?_
            rw [hs16, if_pos (by omega)] at hv1
            rw [← hv1]
            refine w_keep [0, 1, 2, 3, 5] (lv' := [(0, _), (1, _), (2, _), (3, _), (5, _)]) rfl ?_
            exact fin88 hrd
        · rw [b2i_n0] at h9
          have : γ (2 + 1) 21 x = (xa : Int) := h2
          omega
      refine w_aload_n F dX0_soonestOf_0 rfl rfl ?_
      refine w_getF F (fN5 _ (by omega) (by omega)) (by omega) rfl in_X2 (by decide) (Or.inr q127) dX0_soonestOf_1 ?_
      refine w_top (z' := (i : Int)) (by show γ 3 25 x = _; rw [h6]; exact w1) ?_
      refine w_istore F dX0_soonestOf_4 (by decide) rfl (lv' := [(0, _), (1, _), (2, _), (3, _), (4, _)]) rfl ?_
      refine w_iload F dX0_soonestOf_6 rfl ?_
      refine w_bipush F dX0_soonestOf_8 rfl ?_
      refine w_icmp_eq F (tgt := 26) dX0_soonestOf_10 (by decide) (by first | assumption | exact inR0 | exact (hR _ _ _).1 | (constructor <;> omega)) (by first | assumption | exact inR0 | exact (hR _ _ _).1 | (constructor <;> omega)) (fun h => ?_) (fun h => ?_)
      · omega
      · refine w_aload_n F dX0_soonestOf_13 rfl rfl ?_
        refine w_get F (by omega) rfl rfl in_X0 2 (by decide) (Or.inl q542) rfl dX0_soonestOf_14 ?_
        refine w_iload F dX0_soonestOf_17 rfl ?_
        refine w_callV F (As := [_]) (ct_rankS hE γ (k := 1) (j := i) (by omega) hJi) (lw_V q609 q448 q449 q71 q450) md_X1_rank (by omega) (cell_stO (by omega)) rfl rfl rfl rfl (Nat.le_of_ble_eq_true rfl) dX0_soonestOf_19 ⟨by omega, by omega⟩ ⟨by omega, by omega⟩ ?_
        rintro _ _ ⟨rfl, rfl⟩
        refine w_iload_n F dX0_soonestOf_22 rfl ?_
        refine w_icmp_le F (tgt := 29) dX0_soonestOf_23 (by decide) (by first | assumption | exact inR0 | exact (hR _ _ _).1 | (constructor <;> omega)) (by first | assumption | exact inR0 | exact (hR _ _ _).1 | (constructor <;> omega)) (fun h9 => ?_) (fun h9 => ?_)
        · refine w_aload_n F dX0_soonestOf_29 rfl rfl ?_
          refine w_get F (by omega) rfl rfl in_X0 2 (by decide) (Or.inl q542) rfl dX0_soonestOf_30 ?_
          refine w_get F (by omega) (cell_stO (by omega)) rfl in_X1 5 (by decide) (Or.inr q157) rfl dX0_soonestOf_33 ?_
          refine w_iload F dX0_soonestOf_36 rfl ?_
          first | refine w_baldN F (aS5 _ (by omega)) (by omega) (by decide) (by omega) dX0_soonestOf_38 ?_ | refine w_bald F (aS5 _ (by omega)) (by omega) (by decide) (by omega) (by omega) dX0_soonestOf_38 ?_
          refine w_top (z' := T 2 i) si ?_
          refine w_iload_n F dX0_soonestOf_39 rfl ?_
          refine w_icmp_lt F (tgt := 48) dX0_soonestOf_40 (by decide) (by first | assumption | exact inR0 | exact (hR _ _ _).1 | (constructor <;> omega)) (by first | assumption | exact inR0 | exact (hR _ _ _).1 | (constructor <;> omega)) (fun h10 => ?_) (fun h10 => ?_)
          · refine w_bipush F dX0_soonestOf_48 rfl ?_
            rw [if_neg (by omega)] at hb0
            rw [← hb0]
            exact fin50 h9
          · refine w_iload F dX0_soonestOf_43 rfl ?_
            refine w_goto F (tgt := 50) dX0_soonestOf_45 (by decide) ?_
            rw [if_pos (by omega)] at hb0
            rw [← hb0] at fin50 ⊢
            exact fin50 h9
        · refine w_bipush F dX0_soonestOf_26 rfl ?_
          exact w_iret F (by omega) (by omega) (⟨by rw [es, if_pos (by omega)], rfl⟩) dX0_soonestOf_28
end D5
