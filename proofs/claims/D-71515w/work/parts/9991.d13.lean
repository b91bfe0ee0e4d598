/-! DeadlineTree: lateOf, end, late, more, drop -/
theorem sch_self {T : Nat → Nat → Int} {c : Nat} (hc : c < 4096) (hT : ∀ j, c.testBit j = true → 0 ≤ T 2 j ∧ T 2 j ≤ 99) (later : Int) (E : Nat → Int) : (sch T later 30 c 0 0 E).1 = lateB T later c ∧ ∀ i, c.testBit i = true → (sch T later 30 c 0 0 E).2 i = (sch T later 30 c 0 0 (fun _ => 0)).2 i := by
  have := sch_cg (T := T) (T' := T) (later := later) 30 c 0 0 E (fun _ => 0) (fun _ _ _ _ _ _ => rfl) hc hT
  refine ⟨this.1, fun i hi => this.2 i (Or.inr ⟨hi, ?_⟩)⟩
  have := cnt_le c 12
  unfold mu
  split <;> omega
theorem drp_fold {b : Nat} {f : Nat → Nat} {c d : Int} (hc : ∀ j, (f j : Int) < c) (hd : ∀ j, (f j : Int) < d) : ∀ L : List Nat, (∃ j, j ∈ L ∧ b.testBit j = true) → L.foldl (stD b f) (-4, c) = L.foldl (stD b f) (-4, d)
  | [], h => by
    obtain ⟨j, hj, _⟩ := h
    cases hj
  | a :: L, h => by
    simp only [List.foldl_cons]
    by_cases q : b.testBit a = true
    · have e1 : stD b f (-4, c) a = ((a : Int), (f a : Int)) := by unfold stD; rw [if_pos ⟨q, hc a⟩]
      have e2 : stD b f (-4, d) a = ((a : Int), (f a : Int)) := by unfold stD; rw [if_pos ⟨q, hd a⟩]
      rw [e1, e2]
    · have e1 : stD b f (-4, c) a = (-4, c) := by unfold stD; rw [if_neg (fun z => q z.1)]
      have e2 : stD b f (-4, d) a = (-4, d) := by unfold stD; rw [if_neg (fun z => q z.1)]
      rw [e1, e2]
      obtain ⟨j, hj, hb⟩ := h
      rcases List.mem_cons.mp hj with e | e
      · rw [e] at hb; exact absurd hb q
      · exact drp_fold hc hd L ⟨j, e, hb⟩
section D13
variable {l : Launch} {E : EE}
theorem ct_lateOf (hE : EOk E) (hA : AhOk l E) (γ : GG) {T : Nat → Nat → Int} {jobs : Nat} {later : Int} (hj : jobs < 4096) (hla : 0 ≤ later ∧ later ≤ 99) (hJ : ∀ j, jobs.testBit j = true → JC T (γ 3) j) : Ct l yX0_lateOf cX0_lateOf 7 (some .int) E 600 36000 [.ref (E.ad 0), .int (iI (jobs : Int)), .int (iI later)] γ (fun r g => r = some (.int (iI ((sch T later 30 jobs 0 0 (γ 1 14)).1 : Int))) ∧ g 1 14 = (sch T later 30 jobs 0 0 (γ 1 14)).2 ∧ OffD [14] γ g) 0 0 := by
  refine Ct.of hE (by decide) (Nat.le_of_ble_eq_true rfl) (fun Φ hLn hΦ F hfr hlo => ?_)
  subst hLn; subst hΦ
  have h414 := F.ok.1.2.2
  have hrc := F.rc
  have hrs := F.rs
  show Wg Φ 7 _ 0 0 0 [(0, _), (1, _), (2, _)] []
  refine w_rng (fun hR => ?_)
  obtain ⟨tg, htg⟩ : ∃ t, t = sch T later 30 jobs 0 0 (γ 1 14) := ⟨_, rfl⟩
  have loop : ∀ (n : Nat) (left late : Nat) (time : Int) (g : GG), mu T later left time < n → sch T later n left time late (g 1 14) = tg → left < 4096 → (∀ j, left.testBit j = true → JC T (γ 3) j) → late < 4096 → (0 ≤ time ∧ time + 9 * (cnt left 12 : Int) ≤ 99 + 9 * 12) → OffD [14] γ g → Wg Φ 7 g 0 0 8 [(0, .ref (Φ.E.ad 0)), (1, .int (iI (jobs : Int))), (2, .int (iI later)), (3, .int (iI (late : Int))), (4, .int (iI time)), (5, .int (iI (left : Int)))] [] := by
    intro n
    induction n with
    | zero => intro left late time g h1; omega
    | succ n ih =>
      intro left late time g h1 h2 hl4 h3 h4 h5 h6
      have hcl := cnt_le left 12
      have e3 : g 3 = γ 3 := h6.o 3 (by decide)
      have h3' : ∀ j, left.testBit j = true → JC T (g 3) j := by rw [e3]; exact h3
      have h3s : ∀ j, left.testBit j = true → 0 ≤ T 2 j ∧ T 2 j ≤ 99 := fun j hj => (h3 j hj).2.2.2.1
      refine w_iload F dX0_lateOf_8 rfl ?_
      refine w_if_eq F (tgt := 108) dX0_lateOf_10 (by decide) (by first | assumption | exact inR0 | exact (hR _ _ _).1 | (constructor <;> omega)) (fun h => ?_) (fun h => ?_)
      · have h0 : left = 0 := by omega
        subst h0
        have h2 : (late, g 1 14) = tg := h2
        refine w_iload_n F dX0_lateOf_108 rfl ?_
        exact w_iret F (by omega) (by omega) (⟨by rw [← htg, ← h2], by rw [← htg, ← h2], h6⟩) dX0_lateOf_109
      · have h0 : left ≠ 0 := by omega
        simp only [sch] at h2
        rw [if_neg h0] at h2
        refine w_aload_n F dX0_lateOf_13 rfl rfl ?_
        refine w_iload F dX0_lateOf_14 rfl ?_
        refine w_iload F dX0_lateOf_16 rfl ?_
        refine w_iload_n F dX0_lateOf_18 rfl ?_
        refine w_callV F (As := [_, _, _]) (ct_next hE hA g hl4 (by omega) hla h3') (lw_V q753 q755 qs29 q70 q756) md_X0_next (by omega) rfl rfl rfl rfl rfl (Nat.le_of_ble_eq_true rfl) dX0_lateOf_19 ⟨by omega, by omega⟩ ⟨by omega, by omega⟩ ?_
        rintro _ _ ⟨rfl, rfl⟩
        obtain ⟨m1, m2, mj, m3, m4⟩ := mst_in (T := T) h0 hl4 h3s (c := 1000000) (by omega)
        rcases nx_in (T := T) (later := later) (left := left) (time := time) with q | ⟨j, q, j1, j2, j3⟩
        · rw [q]
          rw [if_pos q] at h2
          refine w_istore F dX0_lateOf_22 (by decide) rfl (lv' := [(0, _), (1, _), (2, _), (3, _), (4, _), (5, _), (6, _)]) rfl ?_
          refine w_iload F dX0_lateOf_24 rfl ?_
          refine w_bipush F dX0_lateOf_26 rfl ?_
          refine w_icmp_ne F (tgt := 42) dX0_lateOf_28 (by decide) (by first | assumption | exact inR0 | exact (hR _ _ _).1 | (constructor <;> omega)) (by first | assumption | exact inR0 | exact (hR _ _ _).1 | (constructor <;> omega)) (fun h9 => ?_) (fun h9 => ?_)
          · exact absurd rfl h9
          · refine w_aload_n F dX0_lateOf_31 rfl rfl ?_
            refine w_iload F dX0_lateOf_32 rfl ?_
            refine w_callV F (As := [_]) (ct_leastStart hE g hl4 h3') (lw_V q761 q763 qs30 q70 q764) md_X0_leastStart (by omega) rfl rfl rfl rfl rfl (Nat.le_of_ble_eq_true rfl) dX0_lateOf_34 ⟨by omega, by omega⟩ ⟨by omega, by omega⟩ ?_
            rintro _ _ ⟨rfl, rfl⟩
            refine w_istore F dX0_lateOf_37 (by decide) rfl (lv' := [(0, _), (1, _), (2, _), (3, _), (4, _), (5, _), (6, _)]) rfl ?_
            refine w_goto F (tgt := 8) dX0_lateOf_39 (by decide) ?_
            refine w_keep [0, 1, 2, 3, 4, 5] (lv' := [(0, _), (1, _), (2, _), (3, _), (4, _), (5, _)]) rfl ?_
            refine ih left late _ g ?_ h2 hl4 h3 h4 (by omega) h6
            have hne : nx T later left (mst T left 1000000) ≠ -4 := fun z => nx_no z (tb12 hl4 m3) m3 (by omega)
            unfold mu at h1 ⊢
            rw [if_pos q] at h1
            rw [if_neg hne]
            omega
        · rw [q]
          rw [if_neg (by omega), q, Int.toNat_natCast] at h2
          obtain ⟨_, ⟨s1, s2, s3, s4⟩, r1, r2, r3, r4⟩ := h3 j j2
          have hw := cnt_wob 12 j2
          rw [if_pos j1] at hw
          have hwl : wob left j < 4096 := xor_lt hl4
          have hpw : 2 ^ j < 4096 := Nat.pow_lt_pow_right (n := 12) (by decide) j1
          refine w_rng (fun hR => ?_)
          refine w_istore F dX0_lateOf_22 (by decide) rfl (lv' := [(0, _), (1, _), (2, _), (3, _), (4, _), (5, _), (6, _)]) rfl ?_
          refine w_iload F dX0_lateOf_24 rfl ?_
          refine w_bipush F dX0_lateOf_26 rfl ?_
          refine w_icmp_ne F (tgt := 42) dX0_lateOf_28 (by decide) (by first | assumption | exact inR0 | exact (hR _ _ _).1 | (constructor <;> omega)) (by first | assumption | exact inR0 | exact (hR _ _ _).1 | (constructor <;> omega)) (fun h9 => ?_) (fun h9 => ?_)
          · refine w_iload F dX0_lateOf_42 rfl ?_
            refine w_aload_n F dX0_lateOf_44 rfl rfl ?_
            refine w_get F (by omega) rfl rfl in_X0 2 (by decide) (Or.inl q542) rfl dX0_lateOf_45 ?_
            refine w_get F (by omega) (cell_stO (by omega)) rfl in_X1 7 (by decide) (Or.inr q161) rfl dX0_lateOf_48 ?_
            refine w_iload F dX0_lateOf_51 rfl ?_
            first | refine w_baldN F (aS7 _ (by omega)) (by omega) (by decide) (by omega) dX0_lateOf_53 ?_ | refine w_bald F (aS7 _ (by omega)) (by omega) (by decide) (by omega) (by omega) dX0_lateOf_53 ?_
            refine w_top (z' := T 4 j) ((congrFun (congrFun e3 7) j).trans s4) ?_
            refine w_iadd F dX0_lateOf_54 ?_
            refine w_istore F dX0_lateOf_55 (by decide) rfl (lv' := [(0, _), (1, _), (2, _), (3, _), (4, _), (5, _), (6, _)]) rfl ?_
            refine w_aload_n F dX0_lateOf_57 rfl rfl ?_
            refine w_get F (by omega) rfl rfl in_X0 14 (by decide) (Or.inl q554) rfl dX0_lateOf_58 ?_
            refine w_iload F dX0_lateOf_61 rfl ?_
            refine w_iload F dX0_lateOf_63 rfl ?_
            first | refine w_iastN F (aD14 _) (by omega) (by decide) rfl rfl (by first | assumption | exact inR0 | exact (hR _ _ _).1 | (constructor <;> omega)) (by omega) dX0_lateOf_65 ?_ | refine w_iast F (aD14 _) (by omega) (by decide) rfl rfl (by first | assumption | exact inR0 | exact (hR _ _ _).1 | (constructor <;> omega)) (by omega) (by omega) dX0_lateOf_65 ?_
            refine w_iload_n F dX0_lateOf_66 rfl ?_
            refine w_iload F dX0_lateOf_67 rfl ?_
            refine w_aload_n F dX0_lateOf_69 rfl rfl ?_
            refine w_get F (by omega) rfl rfl in_X0 2 (by decide) (Or.inl q542) rfl dX0_lateOf_70 ?_
            refine w_get F (by omega) (cell_stO (by omega)) rfl in_X1 6 (by decide) (Or.inr q159) rfl dX0_lateOf_73 ?_
            refine w_iload F dX0_lateOf_76 rfl ?_
            first | refine w_baldN F (aS6 _ (by omega)) (by omega) (by decide) (by omega) dX0_lateOf_78 ?_ | refine w_bald F (aS6 _ (by omega)) (by omega) (by decide) (by omega) (by omega) dX0_lateOf_78 ?_
            have o2 : OffD [14] γ (gu g 1 14 j (time + T 4 j)) := h6.up (by decide)
            refine w_top (z' := T 3 j) ((congrFun (congrFun (o2.o 3 (by decide)) 6) j).trans s3) ?_
            have hE2 : gu g 1 14 j (time + T 4 j) 1 14 = upE (g 1 14) j (time + T 4 j) := by
              funext i
              unfold upE
              by_cases e : i = j
              · subst e; rw [gu_s, if_pos rfl]
              · rw [gu_n (by omega), if_neg e]
            have hmu : mu T later (wob left j) (time + T 4 j) < n := by
              unfold mu at h1 ⊢
              rw [if_neg (by omega)] at h1
              split <;> omega
            have hsub : ∀ i, (wob left j).testBit i = true → JC T (γ 3) i := fun i hi => h3 i (by rw [wob_bit] at hi; simp at hi; exact hi.1)
            refine w_iload_n F dX0_lateOf_79 rfl ?_
            refine w_iadd F dX0_lateOf_80 ?_
            refine w_icmp_le F (tgt := 91) dX0_lateOf_81 (by decide) (by first | assumption | exact inR0 | exact (hR _ _ _).1 | (constructor <;> omega)) (by first | assumption | exact inR0 | exact (hR _ _ _).1 | (constructor <;> omega)) (fun h10 => ?_) (fun h10 => ?_)
            · refine w_iconst F dX0_lateOf_91 ?_
              refine w_ior F dX0_lateOf_92 ?_
              refine w_istore_n F dX0_lateOf_93 (by decide) rfl (lv' := [(0, _), (1, _), (2, _), (3, _), (4, _), (5, _), (6, _)]) rfl ?_
              refine w_iload F dX0_lateOf_94 rfl ?_
              refine w_iconst F dX0_lateOf_96 ?_
              refine w_iload F dX0_lateOf_97 rfl ?_
              refine w_ishl1 F (by omega) dX0_lateOf_99 ?_
              refine w_iconst F dX0_lateOf_100 ?_
              refine w_inot F dX0_lateOf_101 ?_
              first | refine w_iandC F (by omega) dX0_lateOf_102 ?_ | refine w_iand F dX0_lateOf_102 ?_
              refine w_istore F dX0_lateOf_103 (by decide) rfl (lv' := [(0, _), (1, _), (2, _), (3, _), (4, _), (5, _), (6, _)]) rfl ?_
              refine w_goto F (tgt := 8) dX0_lateOf_105 (by decide) ?_
              refine w_keep [0, 1, 2, 3, 4, 5] (lv' := [(0, _), (1, _), (2, _), (3, _), (4, _), (5, _)]) rfl ?_
              rw [if_neg (by omega)] at h2
              refine ih (wob left j) (late ||| 0) (time + T 4 j) _ hmu (by rw [hE2]; exact h2) hwl hsub (by simpa using h4) (by omega) o2
            · refine w_iconst F dX0_lateOf_84 ?_
              refine w_iload F dX0_lateOf_85 rfl ?_
              refine w_ishl1 F (by omega) dX0_lateOf_87 ?_
              refine w_goto F (tgt := 92) dX0_lateOf_88 (by decide) ?_
              refine w_ior F dX0_lateOf_92 ?_
              refine w_istore_n F dX0_lateOf_93 (by decide) rfl (lv' := [(0, _), (1, _), (2, _), (3, _), (4, _), (5, _), (6, _)]) rfl ?_
              refine w_iload F dX0_lateOf_94 rfl ?_
              refine w_iconst F dX0_lateOf_96 ?_
              refine w_iload F dX0_lateOf_97 rfl ?_
              refine w_ishl1 F (by omega) dX0_lateOf_99 ?_
              refine w_iconst F dX0_lateOf_100 ?_
              refine w_inot F dX0_lateOf_101 ?_
              first | refine w_iandC F (by omega) dX0_lateOf_102 ?_ | refine w_iand F dX0_lateOf_102 ?_
              refine w_istore F dX0_lateOf_103 (by decide) rfl (lv' := [(0, _), (1, _), (2, _), (3, _), (4, _), (5, _), (6, _)]) rfl ?_
              refine w_goto F (tgt := 8) dX0_lateOf_105 (by decide) ?_
              refine w_keep [0, 1, 2, 3, 4, 5] (lv' := [(0, _), (1, _), (2, _), (3, _), (4, _), (5, _)]) rfl ?_
              rw [if_pos (by omega)] at h2
              refine ih (wob left j) (late ||| 2 ^ j) (time + T 4 j) _ hmu (by rw [hE2]; exact h2) hwl hsub (or_lt h4 j1) (by omega) o2
          · omega
  refine w_iconst F dX0_lateOf_0 ?_
  refine w_istore_n F dX0_lateOf_1 (by decide) rfl (lv' := [(0, _), (1, _), (2, _), (3, _)]) rfl ?_
  refine w_iconst F dX0_lateOf_2 ?_
  refine w_istore F dX0_lateOf_3 (by decide) rfl (lv' := [(0, _), (1, _), (2, _), (3, _), (4, _)]) rfl ?_
  refine w_iload_n F dX0_lateOf_5 rfl ?_
  refine w_istore F dX0_lateOf_6 (by decide) rfl (lv' := [(0, _), (1, _), (2, _), (3, _), (4, _), (5, _)]) rfl ?_
  have hcs := cnt_le jobs 12
  exact loop 30 jobs 0 0 γ (by unfold mu; split <;> omega) htg.symm hj hJ (by omega) (by omega) OffD.rf
theorem ct_endD (hE : EOk E) (hA : AhOk l E) (γ : GG) {v : VV} (hS : SV (γ 3) v) (hV : VOk v) {j : Int} (hj : InR j) : Ct l yX0_end cX0_end 2 (some .int) E 700 40000 [.ref (E.ad 0), .int (iI j)] γ (fun r g => OffD [14] γ g ∧ ((¬ isJobP v.1 j ∧ r = some (.int (iI (-1)))) ∨ (isJobP v.1 j ∧ r = some (.int (iI (endB v.2.1 v.1 j.toNat)))))) 0 0 := by
  refine Ct.of hE (by decide) (Nat.le_of_ble_eq_true rfl) (fun Φ hLn hΦ F hfr hlo => ?_)
  subst hLn; subst hΦ
  have h414 := F.ok.1.2.2
  have hrc := F.rc
  have hrs := F.rs
  show Wg Φ 2 _ 0 0 0 [(0, _), (1, _)] []
  refine w_rng (fun hR => ?_)
  have hb2 := hV.1.1
  have hb : γ 3 0 0 = (v.1 : Int) := hS.1
  have hJ : ∀ j, v.1.testBit j = true → JC v.2.1 (γ 3) j := fun j hj => hS.jc hV hj
  refine w_aload_n F dX0_end_0 rfl rfl ?_
  refine w_iload_n F dX0_end_1 rfl ?_
  refine w_callV F (As := [_]) (ct_isJobD hE γ hb hb2 hj) (lw_V q600 q602 qs18 q70 q603) md_X0_isJob (by omega) rfl rfl rfl rfl rfl (Nat.le_of_ble_eq_true rfl) dX0_end_2 ⟨by omega, by omega⟩ ⟨by omega, by omega⟩ ?_
  rintro _ _ ⟨rfl, rfl⟩
  refine w_if_ne F (tgt := 10) dX0_end_5 (by decide) (b2i_R _) (fun h => ?_) (fun h => ?_)
  · rw [b2i_n0] at h
    obtain ⟨i, rfl⟩ : ∃ i : Nat, j = (i : Int) := ⟨j.toNat, by omega⟩
    have hi : v.1.testBit i = true := by simpa using h.2.2
    refine w_aload_n F dX0_end_10 rfl rfl ?_
    refine w_aload_n F dX0_end_11 rfl rfl ?_
    refine w_get F (by omega) rfl rfl in_X0 2 (by decide) (Or.inl q542) rfl dX0_end_12 ?_
    refine w_getF F (fS0 _ (by omega)) (by omega) rfl in_X1 (by decide) (Or.inr q149) dX0_end_15 ?_
    refine w_top (z' := (v.1 : Int)) hb ?_
    refine w_iconst F dX0_end_18 ?_
    refine w_callV F (As := [_, _]) (ct_lateOf hE hA γ hb2 (by omega) hJ) (lw_V q749 q751 qs28 q70 q752) md_X0_lateOf (by omega) rfl rfl rfl rfl rfl (Nat.le_of_ble_eq_true rfl) dX0_end_19 ⟨by omega, by omega⟩ ⟨by omega, by omega⟩ ?_
    rintro _ g ⟨rfl, h14, o1⟩
    refine w_pop F dX0_end_22 rfl ?_
    refine w_aload_n F dX0_end_23 rfl rfl ?_
    refine w_get F (by omega) rfl rfl in_X0 14 (by decide) (Or.inl q554) rfl dX0_end_24 ?_
    refine w_iload_n F dX0_end_27 rfl ?_
    first | refine w_ialdN F (aD14 _) (by omega) (by decide) (by omega) dX0_end_28 ?_ | refine w_iald F (aD14 _) (by omega) (by decide) (by omega) (by omega) dX0_end_28 ?_
    exact w_iret F (by omega) (by omega) (⟨o1, Or.inr ⟨h, by rw [h14, (sch_self hb2 (fun j hj => (hV.1.2 j hj).2.1) 0 (γ 1 14)).2 i hi]; simp [endB]⟩⟩) dX0_end_29
  · rw [b2i_0] at h
    refine w_iconst F dX0_end_8 ?_
    exact w_iret F (by omega) (by omega) (⟨OffD.rf, Or.inl ⟨h, rfl⟩⟩) dX0_end_9
theorem ct_lateD (hE : EOk E) (hA : AhOk l E) (γ : GG) {v : VV} (hS : SV (γ 3) v) (hV : VOk v) : Ct l yX0_late cX0_late 1 (some .int) E 700 40000 [.ref (E.ad 0)] γ (fun r g => OffD [14] γ g ∧ r = some (.int (iI (lateB v.2.1 0 v.1 : Int)))) 0 0 := by
  refine Ct.of hE (by decide) (Nat.le_of_ble_eq_true rfl) (fun Φ hLn hΦ F hfr hlo => ?_)
  subst hLn; subst hΦ
  have h414 := F.ok.1.2.2
  have hrc := F.rc
  have hrs := F.rs
  show Wg Φ 1 _ 0 0 0 [(0, _)] []
  refine w_rng (fun hR => ?_)
  have hb2 := hV.1.1
  have hb : γ 3 0 0 = (v.1 : Int) := hS.1
  have hJ : ∀ j, v.1.testBit j = true → JC v.2.1 (γ 3) j := fun j hj => hS.jc hV hj
  refine w_aload_n F dX0_late_0 rfl rfl ?_
  refine w_aload_n F dX0_late_1 rfl rfl ?_
  refine w_get F (by omega) rfl rfl in_X0 2 (by decide) (Or.inl q542) rfl dX0_late_2 ?_
  refine w_getF F (fS0 _ (by omega)) (by omega) rfl in_X1 (by decide) (Or.inr q149) dX0_late_5 ?_
  refine w_top (z' := (v.1 : Int)) hb ?_
  refine w_iconst F dX0_late_8 ?_
  refine w_callV F (As := [_, _]) (ct_lateOf hE hA γ hb2 (by omega) hJ) (lw_V q749 q751 qs28 q70 q752) md_X0_lateOf (by omega) rfl rfl rfl rfl rfl (Nat.le_of_ble_eq_true rfl) dX0_late_9 ⟨by omega, by omega⟩ ⟨by omega, by omega⟩ ?_
  rintro _ g ⟨rfl, h14, o1⟩
  exact w_iret F (by omega) (by omega) (⟨o1, by rw [(sch_self hb2 (fun j hj => (hV.1.2 j hj).2.1) 0 (γ 1 14)).1]⟩) dX0_late_12
theorem ct_moreD (hE : EOk E) (hA : AhOk l E) (γ : GG) {v : VV} (hS : SV (γ 3) v) (hV : VOk v) : Ct l yX0_more cX0_more 2 (some .int) E 700 40000 [.ref (E.ad 0)] γ (fun r g => OffD [14] γ g ∧ r = some (.int (iI (mre (fun g => lateB v.2.1 (g : Int) v.1) 100 0)))) 0 0 := by
  refine Ct.of hE (by decide) (Nat.le_of_ble_eq_true rfl) (fun Φ hLn hΦ F hfr hlo => ?_)
  subst hLn; subst hΦ
  have h414 := F.ok.1.2.2
  have hrc := F.rc
  have hrs := F.rs
  show Wg Φ 2 _ 0 0 0 [(0, _)] []
  refine w_rng (fun hR => ?_)
  have hb2 := hV.1.1
  refine w_iconst F dX0_more_0 ?_
  refine w_istore_n F dX0_more_1 (by decide) rfl (lv' := [(0, _), (1, _)]) rfl ?_
  obtain ⟨tg, htg⟩ : ∃ t, t = mre (fun g => lateB v.2.1 (g : Int) v.1) 100 0 := ⟨_, rfl⟩
  have loop : ∀ (n g : Nat) (γ' : GG), n + g = 100 → OffD [14] γ γ' → mre (fun g => lateB v.2.1 (g : Int) v.1) n g = tg → Wg Φ 2 γ' 0 0 2 [(0, .ref (Φ.E.ad 0)), (1, .int (iI (g : Int)))] [] := by
    intro n
    induction n with
    | zero =>
      intro g γ' h1 h2 h3
      refine w_iload_n F dX0_more_2 rfl ?_
      refine w_bipush F dX0_more_3 rfl ?_
      refine w_icmp_gt F (tgt := 31) dX0_more_5 (by decide) (by first | assumption | exact inR0 | exact (hR _ _ _).1 | (constructor <;> omega)) (by first | assumption | exact inR0 | exact (hR _ _ _).1 | (constructor <;> omega)) (fun h => ?_) (fun h => ?_)
      · refine w_bipush F dX0_more_31 rfl ?_
        exact w_iret F (by omega) (by omega) (⟨h2, by rw [← htg, ← h3]; rfl⟩) dX0_more_33
      · omega
    | succ n ih =>
      intro g γ' h1 h2 h3
      have e3 : γ' 3 = γ 3 := h2.o 3 (by decide)
      have hS' : SV (γ' 3) v := by rw [e3]; exact hS
      have hb : γ' 3 0 0 = (v.1 : Int) := hS'.1
      have hJ : ∀ j, v.1.testBit j = true → JC v.2.1 (γ' 3) j := fun j hj => hS'.jc hV hj
      have h3 : (if lateB v.2.1 (g : Int) v.1 = 0 then (g : Int) else mre (fun g => lateB v.2.1 (g : Int) v.1) n (g + 1)) = tg := h3
      refine w_iload_n F dX0_more_2 rfl ?_
      refine w_bipush F dX0_more_3 rfl ?_
      refine w_icmp_gt F (tgt := 31) dX0_more_5 (by decide) (by first | assumption | exact inR0 | exact (hR _ _ _).1 | (constructor <;> omega)) (by first | assumption | exact inR0 | exact (hR _ _ _).1 | (constructor <;> omega)) (fun h => ?_) (fun h => ?_)
      · omega
      · refine w_aload_n F dX0_more_8 rfl rfl ?_
        refine w_aload_n F dX0_more_9 rfl rfl ?_
        refine w_get F (by omega) rfl rfl in_X0 2 (by decide) (Or.inl q542) rfl dX0_more_10 ?_
        refine w_getF F (fS0 _ (by omega)) (by omega) rfl in_X1 (by decide) (Or.inr q149) dX0_more_13 ?_
        refine w_top (z' := (v.1 : Int)) hb ?_
        refine w_iload_n F dX0_more_16 rfl ?_
        refine w_callV F (As := [_, _]) (ct_lateOf hE hA γ' hb2 (later := (g : Int)) (by omega) hJ) (lw_V q749 q751 qs28 q70 q752) md_X0_lateOf (by omega) rfl rfl rfl rfl rfl (Nat.le_of_ble_eq_true rfl) dX0_more_17 ⟨by omega, by omega⟩ ⟨by omega, by omega⟩ ?_
        rintro _ g2 ⟨rfl, h14, o1⟩
        rw [(sch_self hb2 (fun j hj => (hV.1.2 j hj).2.1) (g : Int) (γ' 1 14)).1]
        have hlt : lateB v.2.1 (g : Int) v.1 < 4096 := late_lt _ _ _ _ _ (by omega)
        refine w_if_ne F (tgt := 25) dX0_more_20 (by decide) (by first | assumption | exact inR0 | exact (hR _ _ _).1 | (constructor <;> omega)) (fun h5 => ?_) (fun h5 => ?_)
        · rw [if_neg (by omega)] at h3
          refine w_iinc F dX0_more_25 rfl (by decide) rfl (lv' := [(0, _), (1, _)]) rfl ?_
          refine w_goto F (tgt := 2) dX0_more_28 (by decide) ?_
          exact ih (g + 1) g2 (by omega) (h2.tr o1) h3
        · rw [if_pos (by omega)] at h3
          refine w_iload_n F dX0_more_23 rfl ?_
          exact w_iret F (by omega) (by omega) (⟨h2.tr o1, by rw [← htg, ← h3]⟩) dX0_more_24
  exact loop 100 0 γ rfl OffD.rf htg.symm
theorem ct_dropD (hE : EOk E) (hA : AhOk l E) (γ : GG) {v : VV} (hS : SV (γ 3) v) (hV : VOk v) {w : Int} (hw : InR w) : Ct l yX0_drop cX0_drop 6 (some .int) E 700 40000 [.ref (E.ad 0), .int (iI w)] γ (fun r g => OffD [14] γ g ∧ ((¬ (0 ≤ w ∧ w ≤ 1) ∧ r = some (.int (iI (-1)))) ∨ ((0 ≤ w ∧ w ≤ 1) ∧ cnt v.1 12 = 1 ∧ r = some (.int (iI (-2)))) ∨ ((0 ≤ w ∧ w ≤ 1) ∧ cnt v.1 12 ≠ 1 ∧ r = some (.int (iI (if w = 0 then (drp v.1 (fun j => cnt (lateB v.2.1 0 (wob v.1 j)) 12) 1048576).1 else (drp v.1 (fun j => cnt (lateB v.2.1 0 (wob v.1 j)) 12) 1048576).2)))))) 0 0 := by
  refine Ct.of hE (by decide) (Nat.le_of_ble_eq_true rfl) (fun Φ hLn hΦ F hfr hlo => ?_)
  subst hLn; subst hΦ
  have h414 := F.ok.1.2.2
  have hrc := F.rc
  have hrs := F.rs
  show Wg Φ 6 _ 0 0 0 [(0, _), (1, _)] []
  refine w_rng (fun hR => ?_)
  have hb2 := hV.1.1
  have hb : γ 3 0 0 = (v.1 : Int) := hS.1
  refine w_iload_n F dX0_drop_0 rfl ?_
  refine w_i2l F dX0_drop_1 (by first | assumption | exact inR0 | exact (hR _ _ _).1 | (constructor <;> omega)) ?_
  refine w_lconst F dX0_drop_2 ?_
  refine w_topL (z' := 0) rfl ?_
  refine w_lconst F dX0_drop_3 ?_
  refine w_topL (z' := 1) rfl ?_
  refine w_callS F (As := [_, _, _]) (ct_isIn hE γ hw inR0 (by decide)) (lw_S q279 q280 q70 q281) md_X0_isIn rfl rfl (Nat.le_of_ble_eq_true rfl) dX0_drop_4 ⟨by omega, by omega⟩ ⟨by omega, by omega⟩ ?_
  rintro _ _ ⟨rfl, rfl⟩
  refine w_if_ne F (tgt := 12) dX0_drop_7 (by decide) (b2i_R _) (fun h => ?_) (fun h => ?_)
  · rw [b2i_n0] at h
    refine w_aload_n F dX0_drop_12 rfl rfl ?_
    refine w_get F (by omega) rfl rfl in_X0 2 (by decide) (Or.inl q542) rfl dX0_drop_13 ?_
    refine w_callV F (As := []) (ct_manyS hE γ (k := 1) (by omega) hb hb2) (lw_V q396 q397 q398 q71 q399) md_X1_many (by omega) (cell_stO (by omega)) rfl rfl rfl rfl (Nat.le_of_ble_eq_true rfl) dX0_drop_16 ⟨by omega, by omega⟩ ⟨by omega, by omega⟩ ?_
    rintro _ _ ⟨rfl, rfl⟩
    have hcl := cnt_le v.1 12
    refine w_iconst F dX0_drop_19 ?_
    refine w_icmp_ne F (tgt := 26) dX0_drop_20 (by decide) (by first | assumption | exact inR0 | exact (hR _ _ _).1 | (constructor <;> omega)) (by first | assumption | exact inR0 | exact (hR _ _ _).1 | (constructor <;> omega)) (fun h1 => ?_) (fun h1 => ?_)
    · obtain ⟨f, hf⟩ : ∃ f : Nat → Nat, f = fun j => cnt (lateB v.2.1 0 (wob v.1 j)) 12 := ⟨_, rfl⟩
      have hf12 : ∀ j, f j ≤ 12 := fun j => by rw [hf]; exact cnt_le _ 12
      have hfar : drp v.1 f 1000000 = drp v.1 f 1048576 := by
        obtain ⟨z, hz⟩ := List.exists_mem_of_length_pos (tl_pos v.2.2)
        have hj0 := (hV.2.1.1 z).mp hz
        exact drp_fold (fun j => by have := hf12 j; omega) (fun j => by have := hf12 j; omega) _ ⟨z, by simpa using tb12 hb2 hj0, hj0⟩
      refine w_bipush F dX0_drop_26 rfl ?_
      refine w_istore_n F dX0_drop_28 (by decide) rfl (lv' := [(0, _), (1, _), (2, _)]) rfl ?_
      refine w_ldc_w F q765 dX0_drop_29 ?_
      refine w_top (z' := 1000000) rfl ?_
      refine w_istore_n F dX0_drop_32 (by decide) rfl (lv' := [(0, _), (1, _), (2, _), (3, _)]) rfl ?_
      refine w_iconst F dX0_drop_33 ?_
      refine w_istore F dX0_drop_34 (by decide) rfl (lv' := [(0, _), (1, _), (2, _), (3, _), (4, _)]) rfl ?_
      have loop : ∀ m j (γ' : GG) (q : Int × Int), j ≤ 12 → 12 - j < m → OffD [14] γ γ' → (List.range j).foldl (stD v.1 f) (-4, 1000000) = q → -4 ≤ q.1 → q.1 ≤ 11 → 0 ≤ q.2 → q.2 ≤ 1000000 → Wg Φ 6 γ' 0 0 36 [(0, .ref (Φ.E.ad 0)), (1, .int (iI w)), (2, .int (iI q.1)), (3, .int (iI q.2)), (4, .int (iI (j : Int)))] [] := by
        intro m
        induction m with
        | zero => intro j _ _ h1 h2; omega
        | succ m ih =>
          intro j γ' q h2 h3 h4 h5 h6 h7 h8 h9
          have e3 : γ' 3 = γ 3 := h4.o 3 (by decide)
          have hS' : SV (γ' 3) v := by rw [e3]; exact hS
          have hb' : γ' 3 0 0 = (v.1 : Int) := hS'.1
          refine w_iload F dX0_drop_36 rfl ?_
          refine w_bipush F dX0_drop_38 rfl ?_
          refine w_icmp_ge F (tgt := 114) dX0_drop_40 (by decide) (by first | assumption | exact inR0 | exact (hR _ _ _).1 | (constructor <;> omega)) (by first | assumption | exact inR0 | exact (hR _ _ _).1 | (constructor <;> omega)) (fun h10 => ?_) (fun h10 => ?_)
          · have hj : j = 12 := by omega
            subst hj
            refine w_iload_n F dX0_drop_114 rfl ?_
            refine w_if_ne F (tgt := 122) dX0_drop_115 (by decide) (by first | assumption | exact inR0 | exact (hR _ _ _).1 | (constructor <;> omega)) (fun h11 => ?_) (fun h11 => ?_)
            · refine w_iload_n F dX0_drop_122 rfl ?_
              exact w_iret F (by omega) (by omega) (⟨h4, Or.inr (Or.inr ⟨h, by omega, by rw [← hf, if_neg h11, ← hfar]; unfold drp; rw [h5]⟩)⟩) dX0_drop_123
            · refine w_iload_n F dX0_drop_118 rfl ?_
              refine w_goto F (tgt := 123) dX0_drop_119 (by decide) ?_
              exact w_iret F (by omega) (by omega) (⟨h4, Or.inr (Or.inr ⟨h, by omega, by rw [← hf, if_pos h11, ← hfar]; unfold drp; rw [h5]⟩)⟩) dX0_drop_123
          · have hs : (List.range (j + 1)).foldl (stD v.1 f) (-4, 1000000) = stD v.1 f q j := by rw [List.range_succ, List.foldl_append, h5]; rfl
            refine w_aload_n F dX0_drop_43 rfl rfl ?_
            refine w_get F (by omega) rfl rfl in_X0 2 (by decide) (Or.inl q542) rfl dX0_drop_44 ?_
            refine w_getF F (fS0 _ (by omega)) (by omega) rfl in_X1 (by decide) (Or.inr q149) dX0_drop_47 ?_
            refine w_top (z' := (v.1 : Int)) hb' ?_
            refine w_iload F dX0_drop_50 rfl ?_
            refine w_callS F (As := [_, _]) (ct_hasD hE γ' (a := v.1) (j := j) (by omega) (by omega)) (lw_S q605 q606 q70 q607) md_X0_has rfl rfl (Nat.le_of_ble_eq_true rfl) dX0_drop_52 ⟨by omega, by omega⟩ ⟨by omega, by omega⟩ ?_
            rintro _ _ ⟨rfl, rfl⟩
            refine w_if_eq F (tgt := 83) dX0_drop_55 (by decide) (b2i_R _) (fun h11 => ?_) (fun h11 => ?_)
            · rw [b2i_0] at h11
              have hs2 : stD v.1 f q j = q := by unfold stD; rw [if_neg (fun z => h11 z.1)]
              refine w_ldc_w F q765 dX0_drop_83 ?_
              refine w_top (z' := 1000000) rfl ?_
              refine w_istore F dX0_drop_86 (by decide) rfl (lv' := [(0, _), (1, _), (2, _), (3, _), (4, _), (5, _)]) rfl ?_
              refine w_iload F dX0_drop_88 rfl ?_
              refine w_iload_n F dX0_drop_90 rfl ?_
              refine w_icmp_ge F (tgt := 99) dX0_drop_91 (by decide) (by first | assumption | exact inR0 | exact (hR _ _ _).1 | (constructor <;> omega)) (by first | assumption | exact inR0 | exact (hR _ _ _).1 | (constructor <;> omega)) (fun h12 => ?_) (fun h12 => ?_)
              · refine w_iload_n F dX0_drop_99 rfl ?_
                refine w_istore_n F dX0_drop_100 (by decide) rfl (lv' := [(0, _), (1, _), (2, _), (3, _), (4, _), (5, _)]) rfl ?_
                refine w_iload_n F dX0_drop_101 rfl ?_
                refine w_iload F dX0_drop_102 rfl ?_
                refine w_callS F (As := [_, _]) (ct_min hE γ' (by omega) (by omega)) (lw_S q766 q767 q86 q768) md_J8_min rfl rfl (Nat.le_of_ble_eq_true rfl) dX0_drop_104 ⟨by omega, by omega⟩ ⟨by omega, by omega⟩ ?_
                rintro _ _ ⟨rfl, rfl⟩
                refine w_top (z' := q.2) (by omega) ?_
                refine w_istore_n F dX0_drop_107 (by decide) rfl (lv' := [(0, _), (1, _), (2, _), (3, _), (4, _), (5, _)]) rfl ?_
                refine w_iinc F dX0_drop_108 rfl (by decide) rfl (lv' := [(0, _), (1, _), (2, _), (3, _), (4, _), (5, _)]) rfl ?_
                refine w_goto F (tgt := 36) dX0_drop_111 (by decide) ?_
                refine w_keep [0, 1, 2, 3, 4] (lv' := [(0, _), (1, _), (2, _), (3, _), (4, _)]) rfl ?_
                exact ih (j + 1) γ' q (by omega) (by omega) h4 (by rw [hs, hs2]) h6 h7 h8 h9
              · omega
            · rw [b2i_n0] at h11
              have hwl : wob v.1 j < 4096 := xor_lt hb2
              have hsub : ∀ i, (wob v.1 j).testBit i = true → v.1.testBit i = true := fun i hi => by
                rw [wob_bit] at hi; simp at hi; exact hi.1
              have hpw : 2 ^ j < 4096 := Nat.pow_lt_pow_right (n := 12) (by decide) (by omega)
              refine w_aload_n F dX0_drop_58 rfl rfl ?_
              refine w_aload_n F dX0_drop_59 rfl rfl ?_
              refine w_get F (by omega) rfl rfl in_X0 2 (by decide) (Or.inl q542) rfl dX0_drop_60 ?_
              refine w_getF F (fS0 _ (by omega)) (by omega) rfl in_X1 (by decide) (Or.inr q149) dX0_drop_63 ?_
              refine w_top (z' := (v.1 : Int)) hb' ?_
              refine w_iconst F dX0_drop_66 ?_
              refine w_iload F dX0_drop_67 rfl ?_
              refine w_ishl1 F (by omega) dX0_drop_69 ?_
              refine w_iconst F dX0_drop_70 ?_
              refine w_inot F dX0_drop_71 ?_
              first | refine w_iandC F (by omega) dX0_drop_72 ?_ | refine w_iand F dX0_drop_72 ?_
              refine w_iconst F dX0_drop_73 ?_
              refine w_callV F (As := [_, _]) (ct_lateOf hE hA γ' (jobs := wob v.1 j) (T := v.2.1) hwl (later := 0) (by omega) (fun i hi => hS'.jc hV (hsub i hi))) (lw_V q749 q751 qs28 q70 q752) md_X0_lateOf (by omega) rfl rfl rfl rfl rfl (Nat.le_of_ble_eq_true rfl) dX0_drop_74 ⟨by omega, by omega⟩ ⟨by omega, by omega⟩ ?_
              rintro _ g2 ⟨rfl, h14, o1⟩
              rw [(sch_self hwl (fun i hi => (hV.1.2 i (hsub i hi)).2.1) 0 (γ' 1 14)).1]
              have hlt : lateB v.2.1 0 (wob v.1 j) < 4096 := late_lt _ _ _ _ _ (by omega)
              refine w_callS F (As := [_]) (ct_bitCount hE g2 hlt) (lw_S q777 q401 q85 q402) md_J7_bitCount rfl rfl (Nat.le_of_ble_eq_true rfl) dX0_drop_77 ⟨by omega, by omega⟩ ⟨by omega, by omega⟩ ?_
              rintro _ _ ⟨rfl, rfl⟩
              have hfj : cnt (lateB v.2.1 0 (wob v.1 j)) 12 = f j := by rw [hf]
              rw [hfj]
              have hfl := hf12 j
              refine w_goto F (tgt := 86) dX0_drop_80 (by decide) ?_
              refine w_istore F dX0_drop_86 (by decide) rfl (lv' := [(0, _), (1, _), (2, _), (3, _), (4, _), (5, _)]) rfl ?_
              refine w_iload F dX0_drop_88 rfl ?_
              refine w_iload_n F dX0_drop_90 rfl ?_
              refine w_icmp_ge F (tgt := 99) dX0_drop_91 (by decide) (by first | assumption | exact inR0 | exact (hR _ _ _).1 | (constructor <;> omega)) (by first | assumption | exact inR0 | exact (hR _ _ _).1 | (constructor <;> omega)) (fun h12 => ?_) (fun h12 => ?_)
              · have hs2 : stD v.1 f q j = q := by unfold stD; rw [if_neg (by omega)]
                refine w_iload_n F dX0_drop_99 rfl ?_
                refine w_istore_n F dX0_drop_100 (by decide) rfl (lv' := [(0, _), (1, _), (2, _), (3, _), (4, _), (5, _)]) rfl ?_
                refine w_iload_n F dX0_drop_101 rfl ?_
                refine w_iload F dX0_drop_102 rfl ?_
                refine w_callS F (As := [_, _]) (ct_min hE g2 (by omega) (by omega)) (lw_S q766 q767 q86 q768) md_J8_min rfl rfl (Nat.le_of_ble_eq_true rfl) dX0_drop_104 ⟨by omega, by omega⟩ ⟨by omega, by omega⟩ ?_
                rintro _ _ ⟨rfl, rfl⟩
                refine w_top (z' := q.2) (by omega) ?_
                refine w_istore_n F dX0_drop_107 (by decide) rfl (lv' := [(0, _), (1, _), (2, _), (3, _), (4, _), (5, _)]) rfl ?_
                refine w_iinc F dX0_drop_108 rfl (by decide) rfl (lv' := [(0, _), (1, _), (2, _), (3, _), (4, _), (5, _)]) rfl ?_
                refine w_goto F (tgt := 36) dX0_drop_111 (by decide) ?_
                refine w_keep [0, 1, 2, 3, 4] (lv' := [(0, _), (1, _), (2, _), (3, _), (4, _)]) rfl ?_
                exact ih (j + 1) g2 q (by omega) (by omega) (h4.tr o1) (by rw [hs, hs2]) h6 h7 h8 h9
              · have hs2 : stD v.1 f q j = ((j : Int), (f j : Int)) := by unfold stD; rw [if_pos ⟨h11, by omega⟩]
                refine w_iload F dX0_drop_94 rfl ?_
                refine w_goto F (tgt := 100) dX0_drop_96 (by decide) ?_
                refine w_istore_n F dX0_drop_100 (by decide) rfl (lv' := [(0, _), (1, _), (2, _), (3, _), (4, _), (5, _)]) rfl ?_
                refine w_iload_n F dX0_drop_101 rfl ?_
                refine w_iload F dX0_drop_102 rfl ?_
                refine w_callS F (As := [_, _]) (ct_min hE g2 (by omega) (by omega)) (lw_S q766 q767 q86 q768) md_J8_min rfl rfl (Nat.le_of_ble_eq_true rfl) dX0_drop_104 ⟨by omega, by omega⟩ ⟨by omega, by omega⟩ ?_
                rintro _ _ ⟨rfl, rfl⟩
                refine w_top (z' := (f j : Int)) (by omega) ?_
                refine w_istore_n F dX0_drop_107 (by decide) rfl (lv' := [(0, _), (1, _), (2, _), (3, _), (4, _), (5, _)]) rfl ?_
                refine w_iinc F dX0_drop_108 rfl (by decide) rfl (lv' := [(0, _), (1, _), (2, _), (3, _), (4, _), (5, _)]) rfl ?_
                refine w_goto F (tgt := 36) dX0_drop_111 (by decide) ?_
                refine w_keep [0, 1, 2, 3, 4] (lv' := [(0, _), (1, _), (2, _), (3, _), (4, _)]) rfl ?_
                exact ih (j + 1) g2 ((j : Int), (f j : Int)) (by omega) (by omega) (h4.tr o1) (by rw [hs, hs2]) (by show (-4 : Int) ≤ (j : Int); omega) (by show (j : Int) ≤ 11; omega) (by show (0 : Int) ≤ (f j : Int); omega) (by show (f j : Int) ≤ 1000000; omega)
      exact loop 13 0 γ (-4, 1000000) (by omega) (by omega) OffD.rf rfl (by decide) (by decide) (by decide) (by decide)
    · refine w_bipush F dX0_drop_23 rfl ?_
      exact w_iret F (by omega) (by omega) (⟨OffD.rf, Or.inr (Or.inl ⟨h, by omega, rfl⟩)⟩) dX0_drop_25
  · rw [b2i_0] at h
    refine w_iconst F dX0_drop_10 ?_
    exact w_iret F (by omega) (by omega) (⟨OffD.rf, Or.inl ⟨h, rfl⟩⟩) dX0_drop_11
end D13
