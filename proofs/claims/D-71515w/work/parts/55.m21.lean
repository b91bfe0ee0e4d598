/-! the model: does -/
section M21
variable {l : Launch} {E : EE}
/-- jobs told by bits are in range -/
def JB (σ : Nat → Nat → Int) (b : Nat) : Prop := b < 4096 ∧ ∀ j, b.testBit j = true → (0 ≤ σ 2 j ∧ σ 2 j ≤ 99) ∧ (0 ≤ σ 3 j ∧ σ 3 j ≤ 99) ∧ (1 ≤ σ 4 j ∧ σ 4 j ≤ 9)
theorem JB.sub {σ : Nat → Nat → Int} {b c : Nat} (h : JB σ b) (hc : c < 4096) (hs : ∀ j, c.testBit j = true → b.testBit j = true) : JB σ c := ⟨hc, fun j hj => h.2 j (hs j hj)⟩
theorem ct_does (hE : EOk E) (hm : 438 ≤ E.nk) (γ : GG) {some0 : Nat} {later : Int} (hJ : JB (γ 0) some0) (hl0 : 0 ≤ later) (hl1 : later ≤ 99) : Ct l yX8_does cX8_does 11 (some .int) E 200 20000 [.ref (E.ad 414), .int (iI (some0 : Int)), .int (iI later)] γ (fun v g => v = some (.int (iI ((sch (γ 0) later 30 some0 0 0 (γ 0 26)).1 : Int))) ∧ g 0 26 = (sch (γ 0) later 30 some0 0 0 (γ 0 26)).2 ∧ Off0 [26] γ g) 0 0 := by
  refine Ct.of hE (by decide) (Nat.le_of_ble_eq_true rfl) (fun Φ hLn hΦ F hfr hlo => ?_)
  subst hLn; subst hΦ
  have h414 := F.ok.1.2.2
  have hrc := F.rc
  have hrs := F.rs
  show Wg Φ 11 _ 0 0 0 [(0, _), (1, _), (2, _)] []
  refine w_rng (fun hR => ?_)
  have hs0 := hJ.1
  have inn : ∀ (g : GG) (left late : Nat) (time : Int), Off0 [26] γ g → JB (γ 0) left → (0 ≤ time ∧ time ≤ 1000) → Wg Φ 11 g 0 0 156 [(0, .ref (Φ.E.ad 414)), (1, .int (iI (some0 : Int))), (2, .int (iI later)), (3, .int (iI (left : Int))), (4, .int (iI time)), (5, .int (iI (late : Int))), (6, .int (iI (nx (γ 0) later left time))), (7, .int (iI (mst (γ 0) left 1048576))), (8, .int (iI 12))] [] →
      ∀ (m j : Nat) (b c : Int), j ≤ 12 → 12 - j < m → b = (List.range j).foldl (stp (rkL (γ 0) later) (may (γ 0) left time)) (-4) → c = (List.range j).foldl (fun m j => if left.testBit j = true ∧ γ 0 2 j < m then γ 0 2 j else m) 1048576 → Wg Φ 11 g 0 0 23 [(0, .ref (Φ.E.ad 414)), (1, .int (iI (some0 : Int))), (2, .int (iI later)), (3, .int (iI (left : Int))), (4, .int (iI time)), (5, .int (iI (late : Int))), (6, .int (iI b)), (7, .int (iI c)), (8, .int (iI (j : Int)))] [] := by
    intro g left late time o hL ht K m
    induction m with
    | zero => intro j b c h1 h2; omega
    | succ m ih =>
      intro j b c h1 h2 h3 h4
      have hl4 := hL.1
      have hb : b = -4 ∨ ∃ i : Nat, b = (i : Int) ∧ i < j ∧ left.testBit i = true := by
        rcases (bst_spec (rkL (γ 0) later) (may (γ 0) left time) (List.range j)).in with q | ⟨i, q, q2, q3⟩
        · left; rw [h3]; exact q
        · right
          simp [may] at q3
          exact ⟨i, by rw [h3]; exact q, by simpa using q2, q3.1⟩
      have hc : 0 ≤ c ∧ c ≤ 1048576 := by
        rcases mst_spec (γ 0) left (List.range j) 1048576 with ⟨_, q⟩ | ⟨q, _, q2⟩
        · rw [h4, q]; omega
        · rw [← h4] at q q2
          rcases q2 with q2 | ⟨i, _, q3, q4⟩
          · omega
          · have := (hL.2 i q3).1
            omega
      refine w_rng (fun hR => ?_)
      refine w_iload F dX8_does_23 rfl ?_
      refine w_bipush F dX8_does_25 rfl ?_
      refine w_icmp_ge F (tgt := 156) dX8_does_27 (by decide) (by first | assumption | exact inR0 | exact (hR _ _ _).1 | (constructor <;> omega)) (by first | assumption | exact inR0 | exact (hR _ _ _).1 | (constructor <;> omega)) (fun h => ?_) (fun h => ?_)
      · have e : j = 12 := by omega
        subst e
        rw [h3, h4]
        exact K
      · have hj : j < 12 := by omega
        have ihb : ∀ b' c' : Int, b' = stp (rkL (γ 0) later) (may (γ 0) left time) b j → c' = (if left.testBit j = true ∧ γ 0 2 j < c then γ 0 2 j else c) → Wg Φ 11 g 0 0 150 [(0, .ref (Φ.E.ad 414)), (1, .int (iI (some0 : Int))), (2, .int (iI later)), (3, .int (iI (left : Int))), (4, .int (iI time)), (5, .int (iI (late : Int))), (6, .int (iI b')), (7, .int (iI c')), (8, .int (iI (j : Int)))] [] := by
          intro b' c' hb' hc'
          refine w_iinc F dX8_does_150 rfl (by decide) rfl (lv' := [(0, _), (1, _), (2, _), (3, _), (4, _), (5, _), (6, _), (7, _), (8, _)]) rfl ?_
          refine w_goto F (tgt := 23) dX8_does_153 (by decide) ?_
          refine ih (j + 1) b' c' hj (by clear hb h3 h4 hc hb' hc'; omega) ?_ ?_
          · rw [List.range_succ, List.foldl_append, ← h3]
            exact hb'
          · rw [List.range_succ, List.foldl_append, ← h4]
            exact hc'
        refine w_iload_n F dX8_does_30 rfl ?_
        refine w_iload F dX8_does_31 rfl ?_
        refine w_callS F (As := [_, _]) (ct_has hE g (a := left) (j := j) (by omega) (by omega)) (lw_S q830 q831 q88 q832) md_X8_has rfl rfl (Nat.le_of_ble_eq_true rfl) dX8_does_33 ⟨by omega, by omega⟩ ⟨by omega, by omega⟩ ?_
        rintro _ _ ⟨rfl, rfl⟩
        refine w_if_eq F (tgt := 150) dX8_does_36 (by decide) (b2i_R _) (fun h5 => ?_) (fun h5 => ?_)
        · rw [b2i_0] at h5
          exact ihb b c (by unfold stp; rw [if_neg (by simp [may, h5])]) (by rw [if_neg (by simp [h5])])
        · rw [b2i_n0] at h5
          have hj1 := hL.2 j h5
          have hs2 : g 0 2 j = γ 0 2 j := by rw [o.f 2 rfl]
          have hs3 : g 0 3 j = γ 0 3 j := by rw [o.f 3 rfl]
          have hs4 : g 0 4 j = γ 0 4 j := by rw [o.f 4 rfl]
          have tail : ∀ b' x y : Int, b' = stp (rkL (γ 0) later) (may (γ 0) left time) b j → Wg Φ 11 g 0 0 124 [(0, .ref (Φ.E.ad 414)), (1, .int (iI (some0 : Int))), (2, .int (iI later)), (3, .int (iI (left : Int))), (4, .int (iI time)), (5, .int (iI (late : Int))), (6, .int (iI b')), (7, .int (iI c)), (8, .int (iI (j : Int))), (9, .int (iI x)), (10, .int (iI y))] [] := by
            intro b' x y hb'
            refine w_aload_n F dX8_does_124 rfl rfl ?_
            refine w_get F (by omega) cell_mdO rfl in_X8 2 (by decide) (Or.inl q874) rfl dX8_does_125 ?_
            refine w_iload F dX8_does_128 rfl ?_
            first | refine w_ialdN F (aM2 _) (by omega) (by decide) (by omega) dX8_does_130 ?_ | refine w_iald F (aM2 _) (by omega) (by decide) (by omega) (by omega) dX8_does_130 ?_
            refine w_top hs2 ?_
            refine w_iload F dX8_does_131 rfl ?_
            refine w_icmp_ge F (tgt := 146) dX8_does_133 (by decide) (by first | assumption | exact inR0 | exact (hR _ _ _).1 | (constructor <;> omega)) (by first | assumption | exact inR0 | exact (hR _ _ _).1 | (constructor <;> omega)) (fun h7 => ?_) (fun h7 => ?_)
            · refine w_iload F dX8_does_146 rfl ?_
              refine w_istore F dX8_does_148 (by decide) rfl (lv' := [(0, _), (1, _), (2, _), (3, _), (4, _), (5, _), (6, _), (7, _), (8, _), (9, _), (10, _)]) rfl ?_
              refine w_keep [0, 1, 2, 3, 4, 5, 6, 7, 8] (lv' := [(0, _), (1, _), (2, _), (3, _), (4, _), (5, _), (6, _), (7, _), (8, _)]) rfl ?_
              exact ihb b' c hb' (by rw [if_neg (by omega)])
            · refine w_aload_n F dX8_does_136 rfl rfl ?_
              refine w_get F (by omega) cell_mdO rfl in_X8 2 (by decide) (Or.inl q874) rfl dX8_does_137 ?_
              refine w_iload F dX8_does_140 rfl ?_
              first | refine w_ialdN F (aM2 _) (by omega) (by decide) (by omega) dX8_does_142 ?_ | refine w_iald F (aM2 _) (by omega) (by decide) (by omega) (by omega) dX8_does_142 ?_
              refine w_top hs2 ?_
              refine w_goto F (tgt := 148) dX8_does_143 (by decide) ?_
              refine w_istore F dX8_does_148 (by decide) rfl (lv' := [(0, _), (1, _), (2, _), (3, _), (4, _), (5, _), (6, _), (7, _), (8, _), (9, _), (10, _)]) rfl ?_
              refine w_keep [0, 1, 2, 3, 4, 5, 6, 7, 8] (lv' := [(0, _), (1, _), (2, _), (3, _), (4, _), (5, _), (6, _), (7, _), (8, _)]) rfl ?_
              exact ihb b' (γ 0 2 j) hb' (by rw [if_pos ⟨h5, h7⟩])
          have pick : ∀ (p q : Prop) [Decidable p] [Decidable q], (p ↔ γ 0 2 j ≤ time) → (q ↔ (b = -4 ∨ rkL (γ 0) later j < rkL (γ 0) later b.toNat ∨ rkL (γ 0) later j = rkL (γ 0) later b.toNat ∧ (j : Int) < b)) → Wg Φ 11 g 0 0 105 [(0, .ref (Φ.E.ad 414)), (1, .int (iI (some0 : Int))), (2, .int (iI later)), (3, .int (iI (left : Int))), (4, .int (iI time)), (5, .int (iI (late : Int))), (6, .int (iI b)), (7, .int (iI c)), (8, .int (iI (j : Int))), (9, .int (iI (b2i p))), (10, .int (iI (b2i q)))] [] := by
            intro p q _ _ hp hq
            refine w_iload F dX8_does_105 rfl ?_
            refine w_if_eq F (tgt := 120) dX8_does_107 (by decide) (b2i_R _) (fun h7 => ?_) (fun h7 => ?_)
            · rw [b2i_0, hp] at h7
              refine w_iload F dX8_does_120 rfl ?_
              refine w_istore F dX8_does_122 (by decide) rfl (lv' := [(0, _), (1, _), (2, _), (3, _), (4, _), (5, _), (6, _), (7, _), (8, _), (9, _), (10, _)]) rfl ?_
              exact tail b _ _ (by unfold stp; rw [if_neg (by simp [may, h7])])
            · rw [b2i_n0, hp] at h7
              refine w_iload F dX8_does_110 rfl ?_
              refine w_if_eq F (tgt := 120) dX8_does_112 (by decide) (b2i_R _) (fun h8 => ?_) (fun h8 => ?_)
              · rw [b2i_0, hq] at h8
                refine w_iload F dX8_does_120 rfl ?_
                refine w_istore F dX8_does_122 (by decide) rfl (lv' := [(0, _), (1, _), (2, _), (3, _), (4, _), (5, _), (6, _), (7, _), (8, _), (9, _), (10, _)]) rfl ?_
                exact tail b _ _ (by unfold stp; rw [if_neg (fun z => h8 z.2)])
              · rw [b2i_n0, hq] at h8
                refine w_iload F dX8_does_115 rfl ?_
                refine w_goto F (tgt := 122) dX8_does_117 (by decide) ?_
                refine w_istore F dX8_does_122 (by decide) rfl (lv' := [(0, _), (1, _), (2, _), (3, _), (4, _), (5, _), (6, _), (7, _), (8, _), (9, _), (10, _)]) rfl ?_
                exact tail j _ _ (by unfold stp; rw [if_pos ⟨by simp [may, h5, h7], h8⟩])
          have mid : ∀ (p : Prop) [Decidable p], (p ↔ γ 0 2 j ≤ time) → Wg Φ 11 g 0 0 58 [(0, .ref (Φ.E.ad 414)), (1, .int (iI (some0 : Int))), (2, .int (iI later)), (3, .int (iI (left : Int))), (4, .int (iI time)), (5, .int (iI (late : Int))), (6, .int (iI b)), (7, .int (iI c)), (8, .int (iI (j : Int))), (9, .int (iI (b2i p)))] [] := by
            intro p _ hp
            have hbr : -4 ≤ b ∧ b < 12 := by
              rcases hb with q | ⟨i, q, q2, _⟩ <;> omega
            refine w_iload F dX8_does_58 rfl ?_
            refine w_bipush F dX8_does_60 rfl ?_
            refine w_icmp_eq F (tgt := 98) dX8_does_62 (by decide) (by first | assumption | exact inR0 | exact (hR _ _ _).1 | (constructor <;> omega)) (by first | assumption | exact inR0 | exact (hR _ _ _).1 | (constructor <;> omega)) (fun h7 => ?_) (fun h7 => ?_)
            · refine w_iconst F dX8_does_98 ?_
              refine w_goto F (tgt := 103) dX8_does_99 (by decide) ?_
              refine w_istore F dX8_does_103 (by decide) rfl (lv' := [(0, _), (1, _), (2, _), (3, _), (4, _), (5, _), (6, _), (7, _), (8, _), (9, _), (10, _)]) rfl ?_
              exact pick p True hp (iff_of_true trivial (Or.inl h7))
            · obtain ⟨i, rfl, hij, hib⟩ : ∃ i : Nat, b = (i : Int) ∧ i < j ∧ left.testBit i = true := by
                rcases hb with q | q
                · exact absurd q h7
                · exact q
              have hi1 := hL.2 i hib
              have ht3 : g 0 3 i = γ 0 3 i := by rw [o.f 3 rfl]
              have ht4 : g 0 4 i = γ 0 4 i := by rw [o.f 4 rfl]
              refine w_aload_n F dX8_does_65 rfl rfl ?_
              refine w_iload F dX8_does_66 rfl ?_
              refine w_aload_n F dX8_does_68 rfl rfl ?_
              refine w_get F (by omega) cell_mdO rfl in_X8 3 (by decide) (Or.inl q875) rfl dX8_does_69 ?_
              refine w_iload F dX8_does_72 rfl ?_
              first | refine w_ialdN F (aM3 _) (by omega) (by decide) (by omega) dX8_does_74 ?_ | refine w_iald F (aM3 _) (by omega) (by decide) (by omega) (by omega) dX8_does_74 ?_
              refine w_top hs3 ?_
              refine w_iload_n F dX8_does_75 rfl ?_
              refine w_iadd F dX8_does_76 ?_
              refine w_callV F (As := [_, _]) (ct_rankBy hE hm g hj (d := γ 0 3 j + later) (by omega) (by omega) (by rw [hs4]; omega) (by rw [hs4]; omega)) (lw_V q987 q989 qs47 q88 q990) md_X8_rankBy (by omega) cell_mdO rfl rfl rfl rfl (Nat.le_of_ble_eq_true rfl) dX8_does_77 ⟨by omega, by omega⟩ ⟨by omega, by omega⟩ ?_
              rintro _ _ ⟨rfl, rfl⟩
              refine w_aload_n F dX8_does_80 rfl rfl ?_
              refine w_iload F dX8_does_81 rfl ?_
              refine w_aload_n F dX8_does_83 rfl rfl ?_
              refine w_get F (by omega) cell_mdO rfl in_X8 3 (by decide) (Or.inl q875) rfl dX8_does_84 ?_
              refine w_iload F dX8_does_87 rfl ?_
              first | refine w_ialdN F (aM3 _) (by omega) (by decide) (by omega) dX8_does_89 ?_ | refine w_iald F (aM3 _) (by omega) (by decide) (by omega) (by omega) dX8_does_89 ?_
              refine w_top ht3 ?_
              refine w_iload_n F dX8_does_90 rfl ?_
              refine w_iadd F dX8_does_91 ?_
              refine w_callV F (As := [_, _]) (ct_rankBy hE hm g (j := i) (by omega) (d := γ 0 3 i + later) (by omega) (by omega) (by rw [ht4]; omega) (by rw [ht4]; omega)) (lw_V q987 q989 qs47 q88 q990) md_X8_rankBy (by omega) cell_mdO rfl rfl rfl rfl (Nat.le_of_ble_eq_true rfl) dX8_does_92 ⟨by omega, by omega⟩ ⟨by omega, by omega⟩ ?_
              rintro _ _ ⟨rfl, rfl⟩
              rw [show rk (g 0 1 j) (g 0 4 j) (γ 0 3 j + later) = rkL (γ 0) later j by unfold rkL; rw [hs4, o.f 1 rfl], show rk (g 0 1 i) (g 0 4 i) (γ 0 3 i + later) = rkL (γ 0) later i by unfold rkL; rw [ht4, o.f 1 rfl]]
              have r1 := rk_in (k := γ 0 1 j) (d := γ 0 3 j + later) (ln := γ 0 4 j) (by omega) (by omega) (by omega) (by omega)
              have r2 := rk_in (k := γ 0 1 i) (d := γ 0 3 i + later) (ln := γ 0 4 i) (by omega) (by omega) (by omega) (by omega)
              have e1 : rkL (γ 0) later j = rk (γ 0 1 j) (γ 0 4 j) (γ 0 3 j + later) := rfl
              have e2 : rkL (γ 0) later i = rk (γ 0 1 i) (γ 0 4 i) (γ 0 3 i + later) := rfl
              refine w_icmp_ge F (tgt := 102) dX8_does_95 (by decide) (by first | assumption | exact inR0 | exact (hR _ _ _).1 | (constructor <;> omega)) (by first | assumption | exact inR0 | exact (hR _ _ _).1 | (constructor <;> omega)) (fun h8 => ?_) (fun h8 => ?_)
              · refine w_iconst F dX8_does_102 ?_
                refine w_istore F dX8_does_103 (by decide) rfl (lv' := [(0, _), (1, _), (2, _), (3, _), (4, _), (5, _), (6, _), (7, _), (8, _), (9, _), (10, _)]) rfl ?_
                exact pick p False hp (iff_of_false id (by rw [Int.toNat_natCast]; omega))
              · refine w_iconst F dX8_does_98 ?_
                refine w_goto F (tgt := 103) dX8_does_99 (by decide) ?_
                refine w_istore F dX8_does_103 (by decide) rfl (lv' := [(0, _), (1, _), (2, _), (3, _), (4, _), (5, _), (6, _), (7, _), (8, _), (9, _), (10, _)]) rfl ?_
                exact pick p True hp (iff_of_true trivial (by rw [Int.toNat_natCast]; omega))
          refine w_aload_n F dX8_does_39 rfl rfl ?_
          refine w_get F (by omega) cell_mdO rfl in_X8 2 (by decide) (Or.inl q874) rfl dX8_does_40 ?_
          refine w_iload F dX8_does_43 rfl ?_
          first | refine w_ialdN F (aM2 _) (by omega) (by decide) (by omega) dX8_does_45 ?_ | refine w_iald F (aM2 _) (by omega) (by decide) (by omega) (by omega) dX8_does_45 ?_
          refine w_top hs2 ?_
          refine w_iload F dX8_does_46 rfl ?_
          refine w_icmp_gt F (tgt := 55) dX8_does_48 (by decide) (by first | assumption | exact inR0 | exact (hR _ _ _).1 | (constructor <;> omega)) (by first | assumption | exact inR0 | exact (hR _ _ _).1 | (constructor <;> omega)) (fun h6 => ?_) (fun h6 => ?_)
          · refine w_iconst F dX8_does_55 ?_
            refine w_istore F dX8_does_56 (by decide) rfl (lv' := [(0, _), (1, _), (2, _), (3, _), (4, _), (5, _), (6, _), (7, _), (8, _), (9, _)]) rfl ?_
            exact mid False (iff_of_false id (by omega))
          · refine w_iconst F dX8_does_51 ?_
            refine w_goto F (tgt := 56) dX8_does_52 (by decide) ?_
            refine w_istore F dX8_does_56 (by decide) rfl (lv' := [(0, _), (1, _), (2, _), (3, _), (4, _), (5, _), (6, _), (7, _), (8, _), (9, _)]) rfl ?_
            exact mid True (iff_of_true trivial (by omega))
  obtain ⟨tg, htg⟩ : ∃ t, t = sch (γ 0) later 30 some0 0 0 (γ 0 26) := ⟨_, rfl⟩
  have loop : ∀ (n : Nat) (left late : Nat) (time : Int) (g : GG), mu (γ 0) later left time < n → sch (γ 0) later n left time late (g 0 26) = tg → JB (γ 0) left → late < 4096 → (0 ≤ time ∧ time + 9 * (cnt left 12 : Int) ≤ 99 + 9 * 12) → Off0 [26] γ g → Wg Φ 11 g 0 0 8 [(0, .ref (Φ.E.ad 414)), (1, .int (iI (some0 : Int))), (2, .int (iI later)), (3, .int (iI (left : Int))), (4, .int (iI time)), (5, .int (iI (late : Int)))] [] := by
    intro n
    induction n with
    | zero => intro left late time g h1; omega
    | succ n ih =>
      intro left late time g h1 h2 h3 h4 h5 h6
      have hl4 := h3.1
      have hcl := cnt_le left 12
      refine w_iload_n F dX8_does_8 rfl ?_
      refine w_if_eq F (tgt := 230) dX8_does_9 (by decide) (by first | assumption | exact inR0 | exact (hR _ _ _).1 | (constructor <;> omega)) (fun h => ?_) (fun h => ?_)
      · have h0 : left = 0 := by omega
        subst h0
        have h2 : (late, g 0 26) = tg := h2
        refine w_iload F dX8_does_230 rfl ?_
        exact w_iret F (by omega) (by omega) (⟨by rw [← htg, ← h2], by rw [← htg, ← h2], h6⟩) dX8_does_232
      · have h0 : left ≠ 0 := by omega
        simp only [sch] at h2
        rw [if_neg h0] at h2
        refine w_bipush F dX8_does_12 rfl ?_
        refine w_istore F dX8_does_14 (by decide) rfl (lv' := [(0, _), (1, _), (2, _), (3, _), (4, _), (5, _), (6, _)]) rfl ?_
        refine w_ldc F q1105 dX8_does_16 ?_
        refine w_istore F dX8_does_18 (by decide) rfl (lv' := [(0, _), (1, _), (2, _), (3, _), (4, _), (5, _), (6, _), (7, _)]) rfl ?_
        refine w_iconst F dX8_does_20 ?_
        refine w_istore F dX8_does_21 (by decide) rfl (lv' := [(0, _), (1, _), (2, _), (3, _), (4, _), (5, _), (6, _), (7, _), (8, _)]) rfl ?_
        refine inn g left late time h6 h3 (by omega) ?_ 13 0 (-4) 1048576 (by omega) (by omega) rfl rfl
        obtain ⟨m1, m2, mj, m3, m4⟩ := mst_in (T := γ 0) h0 hl4 (fun j hj => (h3.2 j hj).1) (c := 1048576) (by omega)
        rcases nx_in (T := γ 0) (later := later) (left := left) (time := time) with q | ⟨j, q, j1, j2, j3⟩
        · rw [q]
          rw [if_pos q] at h2
          refine w_iload F dX8_does_156 rfl ?_
          refine w_bipush F dX8_does_158 rfl ?_
          refine w_icmp_ne F (tgt := 170) dX8_does_160 (by decide) (by first | assumption | exact inR0 | exact (hR _ _ _).1 | (constructor <;> omega)) (by first | assumption | exact inR0 | exact (hR _ _ _).1 | (constructor <;> omega)) (fun h9 => ?_) (fun h9 => ?_)
          · exact absurd rfl h9
          · refine w_iload F dX8_does_163 rfl ?_
            refine w_istore F dX8_does_165 (by decide) rfl (lv' := [(0, _), (1, _), (2, _), (3, _), (4, _), (5, _), (6, _), (7, _), (8, _)]) rfl ?_
            refine w_goto F (tgt := 227) dX8_does_167 (by decide) ?_
            refine w_goto F (tgt := 8) dX8_does_227 (by decide) ?_
            refine w_keep [0, 1, 2, 3, 4, 5] (lv' := [(0, _), (1, _), (2, _), (3, _), (4, _), (5, _)]) rfl ?_
            refine ih left late _ g ?_ ?_ h3 h4 ?_ h6
            · have hne : nx (γ 0) later left (mst (γ 0) left 1048576) ≠ -4 := fun z => nx_no z (tb12 hl4 m3) m3 (by omega)
              unfold mu at h1 ⊢
              rw [if_pos q] at h1
              rw [if_neg hne]
              omega
            · rw [mst_c h0 hl4 (fun j hj => (h3.2 j hj).1) (c := 1048576) (d := 1000000) (by omega) (by omega)]
              exact h2
            · omega
        · rw [q]
          rw [if_neg (by omega), q, Int.toNat_natCast] at h2
          have hj1 := h3.2 j j2
          have hw := cnt_wob 12 j2
          rw [if_pos j1] at hw
          have hwl : wob left j < 4096 := xor_lt hl4
          have hs4 : g 0 4 j = γ 0 4 j := by rw [h6.f 4 rfl]
          have hpw : 2 ^ j < 4096 := Nat.pow_lt_pow_right (n := 12) (by decide) j1
          refine w_rng (fun hR => ?_)
          refine w_iload F dX8_does_156 rfl ?_
          refine w_bipush F dX8_does_158 rfl ?_
          refine w_icmp_ne F (tgt := 170) dX8_does_160 (by decide) (by first | assumption | exact inR0 | exact (hR _ _ _).1 | (constructor <;> omega)) (by first | assumption | exact inR0 | exact (hR _ _ _).1 | (constructor <;> omega)) (fun h9 => ?_) (fun h9 => ?_)
          · refine w_iload F dX8_does_170 rfl ?_
            refine w_aload_n F dX8_does_172 rfl rfl ?_
            refine w_get F (by omega) cell_mdO rfl in_X8 4 (by decide) (Or.inl q876) rfl dX8_does_173 ?_
            refine w_iload F dX8_does_176 rfl ?_
            first | refine w_ialdN F (aM4 _) (by omega) (by decide) (by omega) dX8_does_178 ?_ | refine w_iald F (aM4 _) (by omega) (by decide) (by omega) (by omega) dX8_does_178 ?_
            refine w_top hs4 ?_
            refine w_iadd F dX8_does_179 ?_
            refine w_istore F dX8_does_180 (by decide) rfl (lv' := [(0, _), (1, _), (2, _), (3, _), (4, _), (5, _), (6, _), (7, _), (8, _)]) rfl ?_
            refine w_aload_n F dX8_does_182 rfl rfl ?_
            refine w_get F (by omega) cell_mdO rfl in_X8 26 (by decide) (Or.inl q898) rfl dX8_does_183 ?_
            refine w_iload F dX8_does_186 rfl ?_
            refine w_iload F dX8_does_188 rfl ?_
            first | refine w_iastN F (aM26 _) (by omega) (by decide) rfl rfl (by first | assumption | exact inR0 | exact (hR _ _ _).1 | (constructor <;> omega)) (by omega) dX8_does_190 ?_ | refine w_iast F (aM26 _) (by omega) (by decide) rfl rfl (by first | assumption | exact inR0 | exact (hR _ _ _).1 | (constructor <;> omega)) (by omega) (by omega) dX8_does_190 ?_
            refine w_iload F dX8_does_191 rfl ?_
            refine w_iload F dX8_does_193 rfl ?_
            refine w_aload_n F dX8_does_195 rfl rfl ?_
            refine w_get F (by omega) cell_mdO rfl in_X8 3 (by decide) (Or.inl q875) rfl dX8_does_196 ?_
            refine w_iload F dX8_does_199 rfl ?_
            first | refine w_ialdN F (aM3 _) (by omega) (by decide) (by omega) dX8_does_201 ?_ | refine w_iald F (aM3 _) (by omega) (by decide) (by omega) (by omega) dX8_does_201 ?_
            have o2 : Off0 [26] γ (gu g 0 26 j (time + γ 0 4 j)) := h6.up (by decide)
            refine w_top (z' := γ 0 3 j) (by rw [o2.f 3 rfl]) ?_
            have hE2 : gu g 0 26 j (time + γ 0 4 j) 0 26 = upE (g 0 26) j (time + γ 0 4 j) := by
              funext i
              unfold upE
              by_cases e : i = j
              · subst e; rw [gu_s, if_pos rfl]
              · rw [gu_n (by omega), if_neg e]
            have hmu : mu (γ 0) later (wob left j) (time + γ 0 4 j) < n := by
              unfold mu at h1 ⊢
              rw [if_neg (by omega)] at h1
              split <;> omega
            have hsub : JB (γ 0) (wob left j) := h3.sub hwl (fun i hi => by rw [wob_bit] at hi; simp at hi; exact hi.1)
            refine w_iload_n F dX8_does_202 rfl ?_
            refine w_iadd F dX8_does_203 ?_
            refine w_icmp_le F (tgt := 214) dX8_does_204 (by decide) (by first | assumption | exact inR0 | exact (hR _ _ _).1 | (constructor <;> omega)) (by first | assumption | exact inR0 | exact (hR _ _ _).1 | (constructor <;> omega)) (fun h10 => ?_) (fun h10 => ?_)
            · refine w_iconst F dX8_does_214 ?_
              refine w_ior F dX8_does_215 ?_
              refine w_istore F dX8_does_216 (by decide) rfl (lv' := [(0, _), (1, _), (2, _), (3, _), (4, _), (5, _), (6, _), (7, _), (8, _)]) rfl ?_
              refine w_iload_n F dX8_does_218 rfl ?_
              refine w_iconst F dX8_does_219 ?_
              refine w_iload F dX8_does_220 rfl ?_
              refine w_ishl1 F (by omega) dX8_does_222 ?_
              refine w_iconst F dX8_does_223 ?_
              refine w_inot F dX8_does_224 ?_
              first | refine w_iandC F (by omega) dX8_does_225 ?_ | refine w_iand F dX8_does_225 ?_
              refine w_istore_n F dX8_does_226 (by decide) rfl (lv' := [(0, _), (1, _), (2, _), (3, _), (4, _), (5, _), (6, _), (7, _), (8, _)]) rfl ?_
              refine w_goto F (tgt := 8) dX8_does_227 (by decide) ?_
              refine w_keep [0, 1, 2, 3, 4, 5] (lv' := [(0, _), (1, _), (2, _), (3, _), (4, _), (5, _)]) rfl ?_
              rw [if_neg (by omega)] at h2
              refine ih (wob left j) (late ||| 0) (time + γ 0 4 j) _ hmu (by rw [hE2]; exact h2) hsub (by simpa using h4) (by omega) o2
            · refine w_iconst F dX8_does_207 ?_
              refine w_iload F dX8_does_208 rfl ?_
              refine w_ishl1 F (by omega) dX8_does_210 ?_
              refine w_goto F (tgt := 215) dX8_does_211 (by decide) ?_
              refine w_ior F dX8_does_215 ?_
              refine w_istore F dX8_does_216 (by decide) rfl (lv' := [(0, _), (1, _), (2, _), (3, _), (4, _), (5, _), (6, _), (7, _), (8, _)]) rfl ?_
              refine w_iload_n F dX8_does_218 rfl ?_
              refine w_iconst F dX8_does_219 ?_
              refine w_iload F dX8_does_220 rfl ?_
              refine w_ishl1 F (by omega) dX8_does_222 ?_
              refine w_iconst F dX8_does_223 ?_
              refine w_inot F dX8_does_224 ?_
              first | refine w_iandC F (by omega) dX8_does_225 ?_ | refine w_iand F dX8_does_225 ?_
              refine w_istore_n F dX8_does_226 (by decide) rfl (lv' := [(0, _), (1, _), (2, _), (3, _), (4, _), (5, _), (6, _), (7, _), (8, _)]) rfl ?_
              refine w_goto F (tgt := 8) dX8_does_227 (by decide) ?_
              refine w_keep [0, 1, 2, 3, 4, 5] (lv' := [(0, _), (1, _), (2, _), (3, _), (4, _), (5, _)]) rfl ?_
              rw [if_pos (by omega)] at h2
              refine ih (wob left j) (late ||| 2 ^ j) (time + γ 0 4 j) _ hmu (by rw [hE2]; exact h2) hsub (or_lt h4 j1) (by omega) o2
          · omega
  refine w_iload_n F dX8_does_0 rfl ?_
  refine w_istore_n F dX8_does_1 (by decide) rfl (lv' := [(0, _), (1, _), (2, _), (3, _)]) rfl ?_
  refine w_iconst F dX8_does_2 ?_
  refine w_istore F dX8_does_3 (by decide) rfl (lv' := [(0, _), (1, _), (2, _), (3, _), (4, _)]) rfl ?_
  refine w_iconst F dX8_does_5 ?_
  refine w_istore F dX8_does_6 (by decide) rfl (lv' := [(0, _), (1, _), (2, _), (3, _), (4, _), (5, _)]) rfl ?_
  have hcs := cnt_le some0 12
  exact loop 30 some0 0 0 γ (by unfold mu; split <;> omega) htg.symm hJ (by omega) (by omega) Off0.rf
end M21
