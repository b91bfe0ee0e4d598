/-! DeadlineTree: look -/
section D6
variable {l : Launch} {E : EE}
theorem ct_look (hE : EOk E) {T : Nat → Nat → Int} {a b d : Int} (ha : InR a) (hb : InR b) (hd : InR d) : ∀ (t : TT) (x : Nat) (S : Nat → Bool) (ns : List Nat) (γ : GG) (L : List Int) (n : Nat), RC T (γ 3) t x S ns → nn t ≤ 23 → (∀ i ∈ tl t, JC T (γ 3) i) → γ 1 11 0 = (n : Int) → γ 1 12 0 = (L.length : Int) → HL (γ 1 13) L → L.length + (lk (rkT T) (T 2) a b d t S).2.length ≤ 12 → n + (lk (rkT T) (T 2) a b d t S).1 ≤ 1000 → Ct l yX0_look cX0_look 6 none E (500 + nn t) (32000 + 60 * nn t) [.ref (E.ad 0), .ref (E.ad (19 + 31 * 1 + x)), .int (iI a), .int (iI b), .int (iI d)] γ (fun r g => r = none ∧ g 1 11 0 = ((n + (lk (rkT T) (T 2) a b d t S).1 : Nat) : Int) ∧ g 1 12 0 = ((L.length + (lk (rkT T) (T 2) a b d t S).2.length : Nat) : Int) ∧ HL (g 1 13) (L ++ (lk (rkT T) (T 2) a b d t S).2) ∧ OffD [11, 12, 13] γ g) 0 0 := by
  intro t
  induction t with
  | leaf q =>
    intro x S ns γ L n hr hl0 hJ c1 c2 c3 c4 c5
    refine Ct.of hE (by decide) (Nat.le_of_ble_eq_true rfl) (fun Φ hLn hΦ F hfr hlo => ?_)
    subst hLn; subst hΦ
    have h414 := F.ok.1.2.2
    have hrc := F.rc
    have hrs := F.rs
    show Wg Φ 6 _ 0 0 0 [(0, _), (1, _), (2, _), (3, _), (4, _)] []
    refine w_rng (fun hR => ?_)
    have hx := hr.lt
    obtain ⟨e, h1, h2, h3, h4, h5, h6, h7⟩ := id hr
    obtain ⟨lr, hlr⟩ : ∃ z, z = lk (rkT T) (T 2) a b d (.leaf q) S := ⟨_, rfl⟩
    rw [← hlr] at F c4 c5
    have l1 : lr.1 = 1 := by rw [hlr]; simp only [lk]; split <;> rfl
    refine w_aload_n F dX0_look_0 rfl rfl ?_
    refine w_dup F dX0_look_1 rfl ?_
    refine w_getF F (fD11 _) (by omega) rfl in_X0 (by decide) (Or.inl q551) dX0_look_2 ?_
    refine w_top c1 ?_
    refine w_iconst F dX0_look_5 ?_
    refine w_iadd F dX0_look_6 ?_
    refine w_putF F (fD11 _) (by omega) rfl in_X0 tyX0 tyX0_ok nmX0 (by decide) (Or.inl q551) rfl rfl rfl (by first | assumption | exact inR0 | exact (hR _ _ _).1 | (constructor <;> omega)) (fun h => by cases h) (fun h => by cases h) dX0_look_7 ?_
    obtain ⟨g1, hg1⟩ : ∃ z, z = gu γ 1 11 0 ((n : Int) + 1) := ⟨_, rfl⟩
    rw [← hg1]
    have o1 : OffD [11, 12, 13] γ g1 := by rw [hg1]; exact OffD.rf.up (by decide)
    have e3 : g1 3 = γ 3 := o1.o 3 (by decide)
    have e11 : g1 1 11 0 = (n : Int) + 1 := by rw [hg1]; exact gu_s _ _ _ _ _
    have e12 : g1 1 12 = γ 1 12 := by rw [hg1]; exact gu_f (by decide)
    have e13 : g1 1 13 = γ 1 13 := by rw [hg1]; exact gu_f (by decide)
    by_cases h0 : bst (rkT T) S [q] = -4
    · have l2 : lr.2 = [] := by rw [hlr]; simp only [lk]; rw [if_pos (Or.inl h0)]
      refine w_aload_n F dX0_look_10 rfl rfl ?_
      refine w_getF F (fN5 _ (by omega) (by omega)) (by omega) rfl in_X2 (by decide) (Or.inr q127) dX0_look_11 ?_
      refine w_top (z' := -4) (by show g1 3 25 x = -4; rw [e3, h7]; exact h0) ?_
      refine w_istore F dX0_look_14 (by decide) rfl (lv' := [(0, _), (1, _), (2, _), (3, _), (4, _), (5, _)]) rfl ?_
      refine w_iload F dX0_look_16 rfl ?_
      refine w_bipush F dX0_look_18 rfl ?_
      refine w_icmp_eq F (tgt := 37) dX0_look_20 (by decide) (by first | assumption | exact inR0 | exact (hR _ _ _).1 | (constructor <;> omega)) (by first | assumption | exact inR0 | exact (hR _ _ _).1 | (constructor <;> omega)) (fun h => ?_) (fun h => ?_)
      · exact w_vret F (by omega) (by omega) (⟨rfl, by rw [l1, e11]; omega, by rw [l2, e12]; simpa using c2, by rw [l2, e13]; simpa using c3, o1⟩) dX0_look_37
      · omega
    · obtain ⟨i, w1, w2, w3⟩ := bst_nat h0
      have hJi := hJ i (by simpa [tl] using w2)
      have i1 := hJi.1
      have si : γ 3 5 i = T 2 i := hJi.2.1.2.1
      have bi := hJi.2.2.2.1
      have bk := rk_in (k := T 1 i) (ln := T 4 i) (d := T 3 i) (by have := hJi.2.2.2.2.1; omega) (by have := hJi.2.2.2.2.1; omega) (by have := hJi.2.2.2.2.2; omega) (by have := hJi.2.2.2.2.2; omega)
      have bk : 0 ≤ rkT T i ∧ rkT T i ≤ 1100 := bk
      have es : lr.2 = if d < rkT T i then [] else if a ≤ T 2 i ∧ T 2 i ≤ b then [(i : Int)] else [] := by
        rw [hlr]
        simp only [lk]
        rw [w1]
        by_cases hh : d < rkT T i
        · rw [if_pos (Or.inr (by simpa using hh)), if_pos hh]
        · rw [if_neg (by simp; omega), if_neg hh]
          simp
      have fin : ∀ g : GG, OffD [11, 12, 13] γ g → g 1 11 0 = (n : Int) + 1 → g 1 12 0 = ((L.length + lr.2.length : Nat) : Int) → HL (g 1 13) (L ++ lr.2) → Wg Φ 6 g 0 0 80 [(0, .ref (Φ.E.ad 0)), (1, .ref (Φ.E.ad (19 + 31 * 1 + x))), (2, .int (iI a)), (3, .int (iI b)), (4, .int (iI d))] [] := by
        intro g og g11 g12 g13
        have g3 : g 3 = γ 3 := og.o 3 (by decide)
        refine w_aload_n F dX0_look_80 rfl rfl ?_
        refine w_callV F (As := []) (ct_isLeafN hE g (k := 1) (by omega) hx) (lw_V q610 q423 q424 q72 q425) md_X2_isLeaf (by omega) (cell_nd (by omega) (by omega)) rfl rfl rfl rfl (Nat.le_of_ble_eq_true rfl) dX0_look_81 ⟨by omega, by omega⟩ ⟨by omega, by omega⟩ ?_
        rintro _ _ ⟨rfl, rfl⟩
        refine w_if_ne F (tgt := 107) dX0_look_84 (by decide) (b2i_R _) (fun h9 => ?_) (fun h9 => ?_)
        · refine w_aload_n F dX0_look_107 rfl rfl ?_
          refine w_callV F (As := []) (ct_isLeafN hE g (k := 1) (by omega) hx) (lw_V q610 q423 q424 q72 q425) md_X2_isLeaf (by omega) (cell_nd (by omega) (by omega)) rfl rfl rfl rfl (Nat.le_of_ble_eq_true rfl) dX0_look_108 ⟨by omega, by omega⟩ ⟨by omega, by omega⟩ ?_
          rintro _ _ ⟨rfl, rfl⟩
          refine w_if_ne F (tgt := 134) dX0_look_111 (by decide) (b2i_R _) (fun h10 => ?_) (fun h10 => ?_)
          · exact w_vret F (by omega) (by omega) (⟨rfl, by rw [l1, g11]; omega, g12, g13, og⟩) dX0_look_134
          · rw [b2i_0] at h10
            exact absurd (show g 3 21 x < 0 by rw [g3]; omega) h10
        · rw [b2i_0] at h9
          exact absurd (show g 3 21 x < 0 by rw [g3]; omega) h9
      refine w_aload_n F dX0_look_10 rfl rfl ?_
      refine w_getF F (fN5 _ (by omega) (by omega)) (by omega) rfl in_X2 (by decide) (Or.inr q127) dX0_look_11 ?_
      refine w_top (z' := (i : Int)) (by show g1 3 25 x = _; rw [e3, h7]; exact w1) ?_
      refine w_istore F dX0_look_14 (by decide) rfl (lv' := [(0, _), (1, _), (2, _), (3, _), (4, _), (5, _)]) rfl ?_
      refine w_iload F dX0_look_16 rfl ?_
      refine w_bipush F dX0_look_18 rfl ?_
      refine w_icmp_eq F (tgt := 37) dX0_look_20 (by decide) (by first | assumption | exact inR0 | exact (hR _ _ _).1 | (constructor <;> omega)) (by first | assumption | exact inR0 | exact (hR _ _ _).1 | (constructor <;> omega)) (fun h => ?_) (fun h => ?_)
      · omega
      · refine w_aload_n F dX0_look_23 rfl rfl ?_
        refine w_get F (by omega) rfl rfl in_X0 2 (by decide) (Or.inl q542) rfl dX0_look_24 ?_
        refine w_iload F dX0_look_27 rfl ?_
        refine w_callV F (As := [_]) (ct_rankS hE g1 (k := 1) (j := i) (by omega) (show JC T (g1 3) i by rw [e3]; exact hJi)) (lw_V q609 q448 q449 q71 q450) md_X1_rank (by omega) (cell_stO (by omega)) rfl rfl rfl rfl (Nat.le_of_ble_eq_true rfl) dX0_look_29 ⟨by omega, by omega⟩ ⟨by omega, by omega⟩ ?_
        rintro _ _ ⟨rfl, rfl⟩
        refine w_iload F dX0_look_32 rfl ?_
        refine w_icmp_le F (tgt := 38) dX0_look_34 (by decide) (by first | assumption | exact inR0 | exact (hR _ _ _).1 | (constructor <;> omega)) (by first | assumption | exact inR0 | exact (hR _ _ _).1 | (constructor <;> omega)) (fun h8 => ?_) (fun h8 => ?_)
        · rw [if_neg (by omega)] at es
          refine w_aload_n F dX0_look_38 rfl rfl ?_
          refine w_get F (by omega) rfl rfl in_X0 2 (by decide) (Or.inl q542) rfl dX0_look_39 ?_
          refine w_get F (by omega) (cell_stO (by omega)) rfl in_X1 5 (by decide) (Or.inr q157) rfl dX0_look_42 ?_
          refine w_iload F dX0_look_45 rfl ?_
          first | refine w_baldN F (aS5 _ (by omega)) (by omega) (by decide) (by omega) dX0_look_47 ?_ | refine w_bald F (aS5 _ (by omega)) (by omega) (by decide) (by omega) (by omega) dX0_look_47 ?_
          refine w_top (z' := T 2 i) (by show g1 3 5 i = _; rw [e3]; exact si) ?_
          refine w_i2l F dX0_look_48 (by first | assumption | exact inR0 | exact (hR _ _ _).1 | (constructor <;> omega)) ?_
          refine w_iload_n F dX0_look_49 rfl ?_
          refine w_i2l F dX0_look_50 (by first | assumption | exact inR0 | exact (hR _ _ _).1 | (constructor <;> omega)) ?_
          refine w_iload_n F dX0_look_51 rfl ?_
          refine w_i2l F dX0_look_52 (by first | assumption | exact inR0 | exact (hR _ _ _).1 | (constructor <;> omega)) ?_
          refine w_callS F (As := [_, _, _]) (ct_isIn hE g1 (a := T 2 i) (by omega) ha hb) (lw_S q279 q280 q70 q281) md_X0_isIn rfl rfl (Nat.le_of_ble_eq_true rfl) dX0_look_53 ⟨by omega, by omega⟩ ⟨by omega, by omega⟩ ?_
          rintro _ _ ⟨rfl, rfl⟩
          refine w_if_eq F (tgt := 80) dX0_look_56 (by decide) (b2i_R _) (fun h10 => ?_) (fun h10 => ?_)
          · rw [b2i_0] at h10
            rw [if_neg h10] at es
            refine w_keep [0, 1, 2, 3, 4] (lv' := [(0, _), (1, _), (2, _), (3, _), (4, _)]) rfl ?_
            exact fin g1 o1 e11 (by rw [es, e12]; simpa using c2) (by rw [es, e13]; simpa using c3)
          · rw [b2i_n0] at h10
            rw [if_pos h10] at es
            have hL : L.length < 12 := by rw [es] at c4; simp at c4; omega
            refine w_aload_n F dX0_look_59 rfl rfl ?_
            refine w_get F (by omega) rfl rfl in_X0 13 (by decide) (Or.inl q553) rfl dX0_look_60 ?_
            refine w_aload_n F dX0_look_63 rfl rfl ?_
            refine w_getF F (fD12 _) (by omega) rfl in_X0 (by decide) (Or.inl q552) dX0_look_64 ?_
            refine w_top (z' := (L.length : Int)) (by rw [e12]; exact c2) ?_
            refine w_iload F dX0_look_67 rfl ?_
            first | refine w_iastN F (aD13 _) (by omega) (by decide) rfl rfl (by first | assumption | exact inR0 | exact (hR _ _ _).1 | (constructor <;> omega)) (by omega) dX0_look_69 ?_ | refine w_iast F (aD13 _) (by omega) (by decide) rfl rfl (by first | assumption | exact inR0 | exact (hR _ _ _).1 | (constructor <;> omega)) (by omega) (by omega) dX0_look_69 ?_
            refine w_aload_n F dX0_look_70 rfl rfl ?_
            refine w_dup F dX0_look_71 rfl ?_
            refine w_getF F (fD12 _) (by omega) rfl in_X0 (by decide) (Or.inl q552) dX0_look_72 ?_
            refine w_top (z' := (L.length : Int)) (by rw [gu_f (by decide), e12]; exact c2) ?_
            refine w_iconst F dX0_look_75 ?_
            refine w_iadd F dX0_look_76 ?_
            refine w_putF F (fD12 _) (by omega) rfl in_X0 tyX0 tyX0_ok nmX0 (by decide) (Or.inl q552) rfl rfl rfl (by first | assumption | exact inR0 | exact (hR _ _ _).1 | (constructor <;> omega)) (fun h => by cases h) (fun h => by cases h) dX0_look_77 ?_
            refine w_keep [0, 1, 2, 3, 4] (lv' := [(0, _), (1, _), (2, _), (3, _), (4, _)]) rfl ?_
            refine fin _ ((o1.up (by decide)).up (by decide)) (by rw [gu_f (by decide), gu_f (by decide)]; exact e11) (by rw [es, gu_s]; simp) ?_
            rw [es, gu_f (by decide)]
            exact HL.sn (by rw [e13]; exact c3) rfl
        · rw [if_pos (by omega)] at es
          exact w_vret F (by omega) (by omega) (⟨rfl, by rw [l1, e11]; omega, by rw [es, e12]; simpa using c2, by rw [es, e13]; simpa using c3, o1⟩) dX0_look_37
  | branch s ta tb iha ihb =>
    intro x S ns γ L n hr hl0 hJ c1 c2 c3 c4 c5
    refine Ct.of hE (by decide) (Nat.le_of_ble_eq_true rfl) (fun Φ hLn hΦ F hfr hlo => ?_)
    subst hLn; subst hΦ
    have h414 := F.ok.1.2.2
    have hrc := F.rc
    have hrs := F.rs
    show Wg Φ 6 _ 0 0 0 [(0, _), (1, _), (2, _), (3, _), (4, _)] []
    refine w_rng (fun hR => ?_)
    have hx := hr.lt
    obtain ⟨xa, xb, na, nb, e, h1, h2, h3, h4, h5, h6, h7, h8⟩ := id hr
    have hxa := h7.lt
    have hxb := h8.lt
    have hnn : nn (.branch s ta tb) = 1 + nn ta + nn tb := rfl
    have hs16 : ((s / 16 : Nat) : Int) = γ 3 23 x := by omega
    obtain ⟨lr, hlr⟩ : ∃ z, z = lk (rkT T) (T 2) a b d (.branch s ta tb) S := ⟨_, rfl⟩
    rw [← hlr] at F c4 c5
    refine w_aload_n F dX0_look_0 rfl rfl ?_
    refine w_dup F dX0_look_1 rfl ?_
    refine w_getF F (fD11 _) (by omega) rfl in_X0 (by decide) (Or.inl q551) dX0_look_2 ?_
    refine w_top c1 ?_
    have hn1 : n ≤ 1000 := by omega
    refine w_iconst F dX0_look_5 ?_
    refine w_iadd F dX0_look_6 ?_
    refine w_putF F (fD11 _) (by omega) rfl in_X0 tyX0 tyX0_ok nmX0 (by decide) (Or.inl q551) rfl rfl rfl (by first | assumption | exact inR0 | exact (hR _ _ _).1 | (constructor <;> omega)) (fun h => by cases h) (fun h => by cases h) dX0_look_7 ?_
    obtain ⟨g1, hg1⟩ : ∃ z, z = gu γ 1 11 0 ((n : Int) + 1) := ⟨_, rfl⟩
    rw [← hg1]
    have o1 : OffD [11, 12, 13] γ g1 := by rw [hg1]; exact OffD.rf.up (by decide)
    have e3 : g1 3 = γ 3 := o1.o 3 (by decide)
    have e11 : g1 1 11 0 = (n : Int) + 1 := by rw [hg1]; exact gu_s _ _ _ _ _
    have e12 : g1 1 12 = γ 1 12 := by rw [hg1]; exact gu_f (by decide)
    have e13 : g1 1 13 = γ 1 13 := by rw [hg1]; exact gu_f (by decide)
    by_cases h0 : bst (rkT T) S (tl ta ++ tl tb) = -4
    · have l2 : lr = (1, []) := by rw [hlr]; simp only [lk]; rw [if_pos (Or.inl h0)]
      refine w_aload_n F dX0_look_10 rfl rfl ?_
      refine w_getF F (fN5 _ (by omega) (by omega)) (by omega) rfl in_X2 (by decide) (Or.inr q127) dX0_look_11 ?_
      refine w_top (z' := -4) (by show g1 3 25 x = -4; rw [e3, h6]; exact h0) ?_
      refine w_istore F dX0_look_14 (by decide) rfl (lv' := [(0, _), (1, _), (2, _), (3, _), (4, _), (5, _)]) rfl ?_
      refine w_iload F dX0_look_16 rfl ?_
      refine w_bipush F dX0_look_18 rfl ?_
      refine w_icmp_eq F (tgt := 37) dX0_look_20 (by decide) (by first | assumption | exact inR0 | exact (hR _ _ _).1 | (constructor <;> omega)) (by first | assumption | exact inR0 | exact (hR _ _ _).1 | (constructor <;> omega)) (fun h => ?_) (fun h => ?_)
      · exact w_vret F (by omega) (by omega) (⟨rfl, by rw [l2, e11]; rfl, by rw [l2, e12]; simpa using c2, by rw [l2, e13]; simpa using c3, o1⟩) dX0_look_37
      · omega
    · obtain ⟨i, w1, w2, w3⟩ := bst_nat h0
      have hJi := hJ i w2
      have i1 := hJi.1
      have si : γ 3 5 i = T 2 i := hJi.2.1.2.1
      have bi := hJi.2.2.2.1
      have bk := rk_in (k := T 1 i) (ln := T 4 i) (d := T 3 i) (by have := hJi.2.2.2.2.1; omega) (by have := hJi.2.2.2.2.1; omega) (by have := hJi.2.2.2.2.2; omega) (by have := hJi.2.2.2.2.2; omega)
      have bk : 0 ≤ rkT T i ∧ rkT T i ≤ 1100 := bk
      rw [w1] at h7 h8
      obtain ⟨la, hla⟩ : ∃ z, z = lk (rkT T) (T 2) a b d ta (wo S (i : Int)) := ⟨_, rfl⟩
      obtain ⟨lb, hlb⟩ : ∃ z, z = lk (rkT T) (T 2) a b d tb (wo S (i : Int)) := ⟨_, rfl⟩
      obtain ⟨hd1, hhd1⟩ : ∃ z : List Int, z = (if a ≤ T 2 i ∧ T 2 i ≤ b then [(i : Int)] else []) := ⟨_, rfl⟩
      obtain ⟨A, hAA⟩ : ∃ z : Nat × List Int, z = (if a ≤ ((s / 16 : Nat) : Int) then la else (0, [])) := ⟨_, rfl⟩
      obtain ⟨B, hBB⟩ : ∃ z : Nat × List Int, z = (if ((s / 16 : Nat) : Int) ≤ b then lb else (0, [])) := ⟨_, rfl⟩
      have es : lr = if d < rkT T i then (1, []) else (1 + A.1 + B.1, hd1 ++ (A.2 ++ B.2)) := by
        rw [hlr]
        simp only [lk]
        rw [w1]
        by_cases hh : d < rkT T i
        · rw [if_pos (Or.inr (by simpa using hh)), if_pos hh]
        · rw [if_neg (by simp; omega), if_neg hh, hAA, hBB, hhd1, ← hla, ← hlb]
          simp only [Int.toNat_natCast]
          congr 1
          · by_cases q1 : a ≤ ((s / 16 : Nat) : Int) <;> by_cases q2 : ((s / 16 : Nat) : Int) ≤ b <;> simp only [q1, q2, if_true, if_false]
          · by_cases q1 : a ≤ ((s / 16 : Nat) : Int) <;> by_cases q2 : ((s / 16 : Nat) : Int) ≤ b <;> simp only [q1, q2, if_true, if_false]
      have fin107 : ¬ d < rkT T i → ∀ g : GG, OffD [11, 12, 13] γ g → g 1 11 0 = ((n + 1 + A.1 : Nat) : Int) → g 1 12 0 = ((L ++ hd1 ++ A.2).length : Int) → HL (g 1 13) (L ++ hd1 ++ A.2) → Wg Φ 6 g 0 0 107 [(0, .ref (Φ.E.ad 0)), (1, .ref (Φ.E.ad (19 + 31 * 1 + x))), (2, .int (iI a)), (3, .int (iI b)), (4, .int (iI d))] [] := by
        intro hnd g og g11 g12 g13
        rw [if_neg hnd] at es
        have g3 : g 3 = γ 3 := og.o 3 (by decide)
        refine w_aload_n F dX0_look_107 rfl rfl ?_
        refine w_callV F (As := []) (ct_isLeafN hE g (k := 1) (by omega) hx) (lw_V q610 q423 q424 q72 q425) md_X2_isLeaf (by omega) (cell_nd (by omega) (by omega)) rfl rfl rfl rfl (Nat.le_of_ble_eq_true rfl) dX0_look_108 ⟨by omega, by omega⟩ ⟨by omega, by omega⟩ ?_
        rintro _ _ ⟨rfl, rfl⟩
        refine w_if_ne F (tgt := 134) dX0_look_111 (by decide) (b2i_R _) (fun h9 => ?_) (fun h9 => ?_)
        · rw [b2i_n0] at h9
          have h9 : g 3 21 x < 0 := h9
          rw [g3, h2] at h9
          omega
        · refine w_aload_n F dX0_look_114 rfl rfl ?_
          refine w_getF F (fN3 _ (by omega) (by omega)) (by omega) rfl in_X2 (by decide) (Or.inr q123) dX0_look_115 ?_
          refine w_top (z' := γ 3 23 x) (by show g 3 23 x = _; rw [g3]) ?_
          refine w_iload_n F dX0_look_118 rfl ?_
          refine w_icmp_gt F (tgt := 134) dX0_look_119 (by decide) (by first | assumption | exact inR0 | exact (hR _ _ _).1 | (constructor <;> omega)) (by first | assumption | exact inR0 | exact (hR _ _ _).1 | (constructor <;> omega)) (fun h10 => ?_) (fun h10 => ?_)
          · rw [hs16, if_neg (by omega)] at hBB
            exact w_vret F (by omega) (by omega) (⟨rfl, by rw [es, hBB, g11]; simp only; omega, by rw [es, hBB, g12]; simp, by rw [es, hBB]; simpa using g13, og⟩) dX0_look_134
          · rw [hs16, if_pos (by omega)] at hBB
            refine w_aload_n F dX0_look_122 rfl rfl ?_
            refine w_aload_n F dX0_look_123 rfl rfl ?_
            refine w_getF F (fN2 _ (by omega) (by omega)) (by omega) rfl in_X2 (by decide) (Or.inr q120) dX0_look_124 ?_
            refine w_toN (j := xb) (by show g 3 22 x = _; rw [g3]; exact h3) ?_
            refine w_iload_n F dX0_look_127 rfl ?_
            refine w_iload_n F dX0_look_128 rfl ?_
            refine w_iload F dX0_look_129 rfl ?_
            refine w_callV F (As := [_, _, _, _]) (ihb xb (wo S (i : Int)) nb g (L ++ hd1 ++ A.2) (n + 1 + A.1) (by rw [g3]; exact h8) (by omega) (fun q hq => by rw [g3]; exact hJ q (List.mem_append_right _ hq)) g11 g12 g13 (by rw [← hlb, ← hBB]; rw [es] at c4; simp at c4 ⊢; omega) (by rw [← hlb, ← hBB]; rw [es] at c5; simp at c5; omega)) (lw_V q722 q724 qs25 q70 q725) md_X0_look (by omega) rfl rfl rfl rfl rfl (Nat.le_of_ble_eq_true rfl) dX0_look_131 ⟨by omega, by omega⟩ ⟨by omega, by omega⟩ ?_
            rintro _ g4 ⟨rfl, d1, d2, d3, d4⟩
            rw [← hlb, ← hBB] at d1 d2 d3
            exact w_vret F (by omega) (by omega) (⟨rfl, by rw [es, d1]; simp only; omega, by rw [es, d2]; simp; omega, by rw [es]; simpa using d3, og.tr d4⟩) dX0_look_134
      have fin80 : ¬ d < rkT T i → ∀ g : GG, OffD [11, 12, 13] γ g → g 1 11 0 = ((n + 1 : Nat) : Int) → g 1 12 0 = ((L ++ hd1).length : Int) → HL (g 1 13) (L ++ hd1) → Wg Φ 6 g 0 0 80 [(0, .ref (Φ.E.ad 0)), (1, .ref (Φ.E.ad (19 + 31 * 1 + x))), (2, .int (iI a)), (3, .int (iI b)), (4, .int (iI d))] [] := by
        intro hnd g og g11 g12 g13
        rw [if_neg hnd] at es
        have g3 : g 3 = γ 3 := og.o 3 (by decide)
        refine w_aload_n F dX0_look_80 rfl rfl ?_
        refine w_callV F (As := []) (ct_isLeafN hE g (k := 1) (by omega) hx) (lw_V q610 q423 q424 q72 q425) md_X2_isLeaf (by omega) (cell_nd (by omega) (by omega)) rfl rfl rfl rfl (Nat.le_of_ble_eq_true rfl) dX0_look_81 ⟨by omega, by omega⟩ ⟨by omega, by omega⟩ ?_
        rintro _ _ ⟨rfl, rfl⟩
        refine w_if_ne F (tgt := 107) dX0_look_84 (by decide) (b2i_R _) (fun h9 => ?_) (fun h9 => ?_)
        · rw [b2i_n0] at h9
          have h9 : g 3 21 x < 0 := h9
          rw [g3, h2] at h9
          omega
        · refine w_aload_n F dX0_look_87 rfl rfl ?_
          refine w_getF F (fN3 _ (by omega) (by omega)) (by omega) rfl in_X2 (by decide) (Or.inr q123) dX0_look_88 ?_
          refine w_top (z' := γ 3 23 x) (by show g 3 23 x = _; rw [g3]) ?_
          refine w_iload_n F dX0_look_91 rfl ?_
          refine w_icmp_lt F (tgt := 107) dX0_look_92 (by decide) (by first | assumption | exact inR0 | exact (hR _ _ _).1 | (constructor <;> omega)) (by first | assumption | exact inR0 | exact (hR _ _ _).1 | (constructor <;> omega)) (fun h10 => ?_) (fun h10 => ?_)
          · rw [hs16, if_neg (by omega)] at hAA
            refine fin107 hnd g og (by rw [hAA]; exact g11) ?_ ?_
            · rw [hAA, g12]; simp
            · rw [hAA]; simpa using g13
          · rw [hs16, if_pos (by omega)] at hAA
            refine w_aload_n F dX0_look_95 rfl rfl ?_
            refine w_aload_n F dX0_look_96 rfl rfl ?_
            refine w_getF F (fN1 _ (by omega) (by omega)) (by omega) rfl in_X2 (by decide) (Or.inr q117) dX0_look_97 ?_
            refine w_toN (j := xa) (by show g 3 21 x = _; rw [g3]; exact h2) ?_
            refine w_iload_n F dX0_look_100 rfl ?_
            refine w_iload_n F dX0_look_101 rfl ?_
            refine w_iload F dX0_look_102 rfl ?_
            refine w_callV F (As := [_, _, _, _]) (iha xa (wo S (i : Int)) na g (L ++ hd1) (n + 1) (by rw [g3]; exact h7) (by omega) (fun q hq => by rw [g3]; exact hJ q (List.mem_append_left _ hq)) g11 g12 g13 (by rw [← hla, ← hAA]; rw [es] at c4; simp at c4 ⊢; omega) (by rw [← hla, ← hAA]; rw [es] at c5; simp at c5; omega)) (lw_V q722 q724 qs25 q70 q725) md_X0_look (by omega) rfl rfl rfl rfl rfl (Nat.le_of_ble_eq_true rfl) dX0_look_104 ⟨by omega, by omega⟩ ⟨by omega, by omega⟩ ?_
            rintro _ g4 ⟨rfl, d1, d2, d3, d4⟩
            rw [← hla, ← hAA] at d1 d2 d3
            exact fin107 hnd g4 (og.tr d4) d1 (by rw [d2]; simp; omega) d3
      refine w_aload_n F dX0_look_10 rfl rfl ?_
      refine w_getF F (fN5 _ (by omega) (by omega)) (by omega) rfl in_X2 (by decide) (Or.inr q127) dX0_look_11 ?_
      refine w_top (z' := (i : Int)) (by show g1 3 25 x = _; rw [e3, h6]; exact w1) ?_
      refine w_istore F dX0_look_14 (by decide) rfl (lv' := [(0, _), (1, _), (2, _), (3, _), (4, _), (5, _)]) rfl ?_
      refine w_iload F dX0_look_16 rfl ?_
      refine w_bipush F dX0_look_18 rfl ?_
      refine w_icmp_eq F (tgt := 37) dX0_look_20 (by decide) (by first | assumption | exact inR0 | exact (hR _ _ _).1 | (constructor <;> omega)) (by first | assumption | exact inR0 | exact (hR _ _ _).1 | (constructor <;> omega)) (fun h => ?_) (fun h => ?_)
      · omega
      · refine w_aload_n F dX0_look_23 rfl rfl ?_
        refine w_get F (by omega) rfl rfl in_X0 2 (by decide) (Or.inl q542) rfl dX0_look_24 ?_
        refine w_iload F dX0_look_27 rfl ?_
        refine w_callV F (As := [_]) (ct_rankS hE g1 (k := 1) (j := i) (by omega) (show JC T (g1 3) i by rw [e3]; exact hJi)) (lw_V q609 q448 q449 q71 q450) md_X1_rank (by omega) (cell_stO (by omega)) rfl rfl rfl rfl (Nat.le_of_ble_eq_true rfl) dX0_look_29 ⟨by omega, by omega⟩ ⟨by omega, by omega⟩ ?_
        rintro _ _ ⟨rfl, rfl⟩
        refine w_iload F dX0_look_32 rfl ?_
        refine w_icmp_le F (tgt := 38) dX0_look_34 (by decide) (by first | assumption | exact inR0 | exact (hR _ _ _).1 | (constructor <;> omega)) (by first | assumption | exact inR0 | exact (hR _ _ _).1 | (constructor <;> omega)) (fun h9 => ?_) (fun h9 => ?_)
        · have hnd : ¬ d < rkT T i := by omega
          rw [if_neg hnd] at es
          refine w_aload_n F dX0_look_38 rfl rfl ?_
          refine w_get F (by omega) rfl rfl in_X0 2 (by decide) (Or.inl q542) rfl dX0_look_39 ?_
          refine w_get F (by omega) (cell_stO (by omega)) rfl in_X1 5 (by decide) (Or.inr q157) rfl dX0_look_42 ?_
          refine w_iload F dX0_look_45 rfl ?_
          first | refine w_baldN F (aS5 _ (by omega)) (by omega) (by decide) (by omega) dX0_look_47 ?_ | refine w_bald F (aS5 _ (by omega)) (by omega) (by decide) (by omega) (by omega) dX0_look_47 ?_
          refine w_top (z' := T 2 i) (by show g1 3 5 i = _; rw [e3]; exact si) ?_
          refine w_i2l F dX0_look_48 (by first | assumption | exact inR0 | exact (hR _ _ _).1 | (constructor <;> omega)) ?_
          refine w_iload_n F dX0_look_49 rfl ?_
          refine w_i2l F dX0_look_50 (by first | assumption | exact inR0 | exact (hR _ _ _).1 | (constructor <;> omega)) ?_
          refine w_iload_n F dX0_look_51 rfl ?_
          refine w_i2l F dX0_look_52 (by first | assumption | exact inR0 | exact (hR _ _ _).1 | (constructor <;> omega)) ?_
          refine w_callS F (As := [_, _, _]) (ct_isIn hE g1 (a := T 2 i) (by omega) ha hb) (lw_S q279 q280 q70 q281) md_X0_isIn rfl rfl (Nat.le_of_ble_eq_true rfl) dX0_look_53 ⟨by omega, by omega⟩ ⟨by omega, by omega⟩ ?_
          rintro _ _ ⟨rfl, rfl⟩
          refine w_if_eq F (tgt := 80) dX0_look_56 (by decide) (b2i_R _) (fun h10 => ?_) (fun h10 => ?_)
          · rw [b2i_0] at h10
            rw [if_neg h10] at hhd1
            refine w_keep [0, 1, 2, 3, 4] (lv' := [(0, _), (1, _), (2, _), (3, _), (4, _)]) rfl ?_
            exact fin80 hnd g1 o1 e11 (by rw [hhd1, e12]; simpa using c2) (by rw [hhd1, e13]; simpa using c3)
          · rw [b2i_n0] at h10
            rw [if_pos h10] at hhd1
            have hL : L.length < 12 := by rw [es, hhd1] at c4; simp at c4; omega
            refine w_aload_n F dX0_look_59 rfl rfl ?_
            refine w_get F (by omega) rfl rfl in_X0 13 (by decide) (Or.inl q553) rfl dX0_look_60 ?_
            refine w_aload_n F dX0_look_63 rfl rfl ?_
            refine w_getF F (fD12 _) (by omega) rfl in_X0 (by decide) (Or.inl q552) dX0_look_64 ?_
            refine w_top (z' := (L.length : Int)) (by rw [e12]; exact c2) ?_
            refine w_iload F dX0_look_67 rfl ?_
            first | refine w_iastN F (aD13 _) (by omega) (by decide) rfl rfl (by first | assumption | exact inR0 | exact (hR _ _ _).1 | (constructor <;> omega)) (by omega) dX0_look_69 ?_ | refine w_iast F (aD13 _) (by omega) (by decide) rfl rfl (by first | assumption | exact inR0 | exact (hR _ _ _).1 | (constructor <;> omega)) (by omega) (by omega) dX0_look_69 ?_
            refine w_aload_n F dX0_look_70 rfl rfl ?_
            refine w_dup F dX0_look_71 rfl ?_
            refine w_getF F (fD12 _) (by omega) rfl in_X0 (by decide) (Or.inl q552) dX0_look_72 ?_
            refine w_top (z' := (L.length : Int)) (by rw [gu_f (by decide), e12]; exact c2) ?_
            refine w_iconst F dX0_look_75 ?_
            refine w_iadd F dX0_look_76 ?_
            refine w_putF F (fD12 _) (by omega) rfl in_X0 tyX0 tyX0_ok nmX0 (by decide) (Or.inl q552) rfl rfl rfl (by first | assumption | exact inR0 | exact (hR _ _ _).1 | (constructor <;> omega)) (fun h => by cases h) (fun h => by cases h) dX0_look_77 ?_
            refine w_keep [0, 1, 2, 3, 4] (lv' := [(0, _), (1, _), (2, _), (3, _), (4, _)]) rfl ?_
            refine fin80 hnd _ ((o1.up (by decide)).up (by decide)) (by rw [gu_f (by decide), gu_f (by decide)]; exact e11) (by rw [hhd1, gu_s]; simp) ?_
            rw [hhd1, gu_f (by decide)]
            exact HL.sn (by rw [e13]; exact c3) rfl
        · rw [if_pos (by omega)] at es
          exact w_vret F (by omega) (by omega) (⟨rfl, by rw [es, e11]; rfl, by rw [es, e12]; simpa using c2, by rw [es, e13]; simpa using c3, o1⟩) dX0_look_37
end D6
