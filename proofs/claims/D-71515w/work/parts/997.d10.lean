/-! DeadlineTree: first -/
section D10
variable {l : Launch} {E : EE}
theorem ct_firstD (hE : EOk E) (hA : AhOk l E) (γ : GG) {v : VV} {vu vk : List VV} (hF : DF γ v vu vk) (hV : VOk v) {a b kz : Int} (ha : InR a) (hb : InR b) (hkz : InR kz) : Ct l yX0_first cX0_first 7 (some .int) E 700 40000 [.ref (E.ad 0), .int (iI a), .int (iI b), .int (iI kz)] γ (fun r g => OffD [11, 12, 13] γ g ∧ ((¬ (btw a b ∧ 0 ≤ kz ∧ kz ≤ 11) ∧ r = some (.int (iI (-1)))) ∨ ((btw a b ∧ 0 ≤ kz ∧ kz ≤ 11) ∧ r = some (.int (iI (kth (rkT v.2.1) kz.toNat (frS v a b))))))) 0 0 := by
  refine Ct.of hE (by decide) (Nat.le_of_ble_eq_true rfl) (fun Φ hLn hΦ F hfr hlo => ?_)
  subst hLn; subst hΦ
  have h414 := F.ok.1.2.2
  have hrc := F.rc
  have hrs := F.rs
  show Wg Φ 7 _ 0 0 0 [(0, _), (1, _), (2, _), (3, _)] []
  refine w_rng (fun hR => ?_)
  have hv := hF.1
  have no : ¬ (btw a b ∧ 0 ≤ kz ∧ kz ≤ 11) → Wg Φ 7 γ 0 0 20 [(0, .ref (Φ.E.ad 0)), (1, .int (iI a)), (2, .int (iI b)), (3, .int (iI kz))] [] := by
    intro hn
    refine w_iconst F dX0_first_20 ?_
    exact w_iret F (by omega) (by omega) (⟨OffD.rf, Or.inl ⟨hn, rfl⟩⟩) dX0_first_21
  refine w_iload_n F dX0_first_0 rfl ?_
  refine w_iload_n F dX0_first_1 rfl ?_
  refine w_callS F (As := [_, _]) (ct_areStarts hE γ ha hb) (lw_S q714 q715 q70 q716) md_X0_areStarts rfl rfl (Nat.le_of_ble_eq_true rfl) dX0_first_2 ⟨by omega, by omega⟩ ⟨by omega, by omega⟩ ?_
  rintro _ _ ⟨rfl, rfl⟩
  refine w_if_eq F (tgt := 20) dX0_first_5 (by decide) (b2i_R _) (fun h => ?_) (fun h => ?_)
  · rw [b2i_0] at h
    exact no (fun q => h q.1)
  · rw [b2i_n0] at h
    refine w_iload_n F dX0_first_8 rfl ?_
    refine w_i2l F dX0_first_9 (by first | assumption | exact inR0 | exact (hR _ _ _).1 | (constructor <;> omega)) ?_
    refine w_lconst F dX0_first_10 ?_
    refine w_topL (z' := 0) rfl ?_
    refine w_ldc2 F q604 dX0_first_11 ?_
    refine w_topL (z' := 11) rfl ?_
    refine w_callS F (As := [_, _, _]) (ct_isIn hE γ hkz inR0 (by decide)) (lw_S q279 q280 q70 q281) md_X0_isIn rfl rfl (Nat.le_of_ble_eq_true rfl) dX0_first_14 ⟨by omega, by omega⟩ ⟨by omega, by omega⟩ ?_
    rintro _ _ ⟨rfl, rfl⟩
    refine w_if_ne F (tgt := 22) dX0_first_17 (by decide) (b2i_R _) (fun h2 => ?_) (fun h2 => ?_)
    · rw [b2i_n0] at h2
      obtain ⟨kk, rfl⟩ : ∃ i : Nat, kz = (i : Int) := ⟨kz.toNat, by omega⟩
      have hok : btw a b ∧ 0 ≤ (kk : Int) ∧ (kk : Int) ≤ 11 := ⟨h, h2⟩
      have hres := first_eq hV a b kk
      obtain ⟨_, hm2, _⟩ := lk_mem (T := v.2.1) (R := rkT v.2.1) (a := a) (b := b) (u := 200) v.2.2 (fun _ => true) hV.2.2 hV.2.1.2 (fun q hq => ⟨(hv.jt hV q hq).1, (hv.jt hV q hq).2.2.2.1.1⟩)
      refine w_aload_n F dX0_first_22 rfl rfl ?_
      refine w_iload_n F dX0_first_23 rfl ?_
      refine w_iload_n F dX0_first_24 rfl ?_
      refine w_sipush F dX0_first_25 rfl ?_
      refine w_callV F (As := [_, _, _]) (ct_findD hE γ hF hV ha hb (d := 200) (by decide)) (lw_V q718 q720 qs24 q70 q721) md_X0_find (by omega) rfl rfl rfl rfl rfl (Nat.le_of_ble_eq_true rfl) dX0_first_28 ⟨by omega, by omega⟩ ⟨by omega, by omega⟩ ?_
      rintro _ g ⟨rfl, d1, d2, d3, d4, d5⟩
      obtain ⟨L, hL⟩ : ∃ z, z = (qLk v a b 200).2 := ⟨_, rfl⟩
      have hm2 : ∀ w ∈ L, ∃ q : Nat, w = (q : Int) ∧ q ∈ tl v.2.2 := fun w hw => by
        obtain ⟨q, q1, q2, _⟩ := hm2 w (by rw [hL] at hw; exact hw)
        exact ⟨q, q1, q2⟩
      rw [← hL] at hres d2 d3 d4
      have g3 : g 3 = γ 3 := d5.o 3 (by decide)
      have hat : ∀ m, m < L.length → ∃ q : Nat, L[m]? = some (q : Int) ∧ g 1 13 m = (q : Int) ∧ JC v.2.1 (g 3) q := fun m hm => by
        obtain ⟨q, q1, q2⟩ := hm2 L[m] (List.getElem_mem hm)
        have e : L[m]? = some (q : Int) := by rw [List.getElem?_eq_getElem hm, q1]
        exact ⟨q, e, d3 m _ e, by rw [g3]; exact hv.jt hV q q2⟩
      have outer : ∀ (r : List Int) (i : Nat), L.drop i = r → i ≤ L.length → frO (rkT v.2.1) L kk r = frO (rkT v.2.1) L kk L → Wg Φ 7 g 0 0 34 [(0, .ref (Φ.E.ad 0)), (3, .int (iI (kk : Int))), (4, .int (iI (i : Int)))] [] := by
        intro r
        induction r with
        | nil =>
          intro i a1 a2 a3
          have hi : L.length ≤ i := List.drop_eq_nil_iff.mp a1
          refine w_iload F dX0_first_34 rfl ?_
          refine w_aload_n F dX0_first_36 rfl rfl ?_
          refine w_getF F (fD12 _) (by omega) rfl in_X0 (by decide) (Or.inl q552) dX0_first_37 ?_
          refine w_top d2 ?_
          refine w_icmp_ge F (tgt := 134) dX0_first_40 (by decide) (by first | assumption | exact inR0 | exact (hR _ _ _).1 | (constructor <;> omega)) (by first | assumption | exact inR0 | exact (hR _ _ _).1 | (constructor <;> omega)) (fun h5 => ?_) (fun h5 => ?_)
          · refine w_bipush F dX0_first_134 rfl ?_
            exact w_iret F (by omega) (by omega) (⟨d5, Or.inr ⟨hok, by rw [Int.toNat_natCast, ← hres, ← a3]; rfl⟩⟩) dX0_first_136
          · omega
        | cons w r ih =>
          intro i a1 a2 a3
          have hi : i < L.length := by
            refine Classical.byContradiction (fun hn => ?_)
            rw [List.drop_eq_nil_iff.mpr (by omega)] at a1
            cases a1
          obtain ⟨q, q1, q2, q3⟩ := hat i hi
          have ew : w = (q : Int) := by
            have : (L.drop i)[0]? = some w := by rw [a1]; rfl
            rw [List.getElem?_drop, Nat.add_zero, q1] at this
            exact (Option.some.inj this).symm
          have q12 := q3.1
          have hnext : L.drop (i + 1) = r := by rw [← List.drop_drop, a1]; rfl
          have skip : L.countP (fun z => ahB (rkT v.2.1) z.toNat w.toNat) ≠ kk → Wg Φ 7 g 0 0 128 [(0, .ref (Φ.E.ad 0)), (3, .int (iI (kk : Int))), (4, .int (iI (i : Int)))] [] := by
            intro hne
            refine w_iinc F dX0_first_128 rfl (by decide) rfl (lv' := [(0, _), (3, _), (4, _)]) rfl ?_
            refine w_goto F (tgt := 34) dX0_first_131 (by decide) ?_
            refine ih (i + 1) hnext (by omega) ?_
            rw [← a3]
            simp only [frO]
            rw [if_neg hne]
          have inner : ∀ (n m c : Nat), L.length - m < n → m ≤ L.length → c = (L.take m).countP (fun z => ahB (rkT v.2.1) z.toNat w.toNat) → c ≤ kk → Wg Φ 7 g 0 0 49 [(0, .ref (Φ.E.ad 0)), (3, .int (iI (kk : Int))), (4, .int (iI (i : Int))), (5, .int (iI (c : Int))), (6, .int (iI (m : Int)))] [] := by
            intro n
            induction n with
            | zero => intro m c b1; omega
            | succ n ihn =>
              intro m c b1 b2 b3 b4
              refine w_iload F dX0_first_49 rfl ?_
              refine w_aload_n F dX0_first_51 rfl rfl ?_
              refine w_getF F (fD12 _) (by omega) rfl in_X0 (by decide) (Or.inl q552) dX0_first_52 ?_
              refine w_top d2 ?_
              refine w_icmp_ge F (tgt := 114) dX0_first_55 (by decide) (by first | assumption | exact inR0 | exact (hR _ _ _).1 | (constructor <;> omega)) (by first | assumption | exact inR0 | exact (hR _ _ _).1 | (constructor <;> omega)) (fun h5 => ?_) (fun h5 => ?_)
              · have em : m = L.length := by omega
                rw [em, List.take_length] at b3
                refine w_iload F dX0_first_114 rfl ?_
                refine w_iload_n F dX0_first_116 rfl ?_
                refine w_icmp_ne F (tgt := 128) dX0_first_117 (by decide) (by first | assumption | exact inR0 | exact (hR _ _ _).1 | (constructor <;> omega)) (by first | assumption | exact inR0 | exact (hR _ _ _).1 | (constructor <;> omega)) (fun h6 => ?_) (fun h6 => ?_)
                · refine w_keep [0, 3, 4] (lv' := [(0, _), (3, _), (4, _)]) rfl ?_
                  exact skip (by omega)
                · refine w_aload_n F dX0_first_120 rfl rfl ?_
                  refine w_get F (by omega) rfl rfl in_X0 13 (by decide) (Or.inl q553) rfl dX0_first_121 ?_
                  refine w_iload F dX0_first_124 rfl ?_
                  first | refine w_ialdN F (aD13 _) (by omega) (by decide) (by omega) dX0_first_126 ?_ | refine w_iald F (aD13 _) (by omega) (by decide) (by omega) (by omega) dX0_first_126 ?_
                  refine w_top (z' := w) (by rw [ew]; exact q2) ?_
                  exact w_iret F (by omega) (by omega) (⟨d5, Or.inr ⟨hok, by rw [Int.toNat_natCast, ← hres, ← a3]; simp only [frO]; rw [if_pos (by omega)]⟩⟩) dX0_first_127
              · have hml : m < L.length := by omega
                obtain ⟨p, p1, p2, p3⟩ := hat m hml
                have p12 := p3.1
                have hstep : (L.take (m + 1)).countP (fun z => ahB (rkT v.2.1) z.toNat w.toNat) = c + (if ahB (rkT v.2.1) p q = true then 1 else 0) := by
                  rw [List.take_succ, p1, List.countP_append, ← b3, ew]
                  simp
                have tot : (L.take (m + 1)).countP (fun z => ahB (rkT v.2.1) z.toNat w.toNat) ≤ L.countP (fun z => ahB (rkT v.2.1) z.toNat w.toNat) := List.Sublist.countP_le (List.take_sublist _ _)
                have go : ∀ c' : Nat, c' = (L.take (m + 1)).countP (fun z => ahB (rkT v.2.1) z.toNat w.toNat) → c' ≤ 100 → Wg Φ 7 g 0 0 97 [(0, .ref (Φ.E.ad 0)), (3, .int (iI (kk : Int))), (4, .int (iI (i : Int))), (5, .int (iI (c : Int))), (6, .int (iI (m : Int)))] [.int (iI (c' : Int))] := by
                  intro c' e1 e2
                  refine w_istore F dX0_first_97 (by decide) rfl (lv' := [(0, _), (3, _), (4, _), (5, _), (6, _)]) rfl ?_
                  refine w_iload F dX0_first_99 rfl ?_
                  refine w_iload_n F dX0_first_101 rfl ?_
                  refine w_icmp_le F (tgt := 108) dX0_first_102 (by decide) (by first | assumption | exact inR0 | exact (hR _ _ _).1 | (constructor <;> omega)) (by first | assumption | exact inR0 | exact (hR _ _ _).1 | (constructor <;> omega)) (fun h7 => ?_) (fun h7 => ?_)
                  · refine w_iinc F dX0_first_108 rfl (by decide) rfl (lv' := [(0, _), (3, _), (4, _), (5, _), (6, _)]) rfl ?_
                    refine w_goto F (tgt := 49) dX0_first_111 (by decide) ?_
                    exact ihn (m + 1) c' (by omega) (by omega) e1 (by omega)
                  · refine w_goto F (tgt := 128) dX0_first_105 (by decide) ?_
                    refine w_keep [0, 3, 4] (lv' := [(0, _), (3, _), (4, _)]) rfl ?_
                    exact skip (by omega)
                have z95 : ¬ ahB (rkT v.2.1) p q = true → Wg Φ 7 g 0 0 95 [(0, .ref (Φ.E.ad 0)), (3, .int (iI (kk : Int))), (4, .int (iI (i : Int))), (5, .int (iI (c : Int))), (6, .int (iI (m : Int)))] [.int (iI (c : Int))] := by
                  intro hno
                  refine w_iconst F dX0_first_95 ?_
                  refine w_iadd F dX0_first_96 ?_
                  refine w_top (z' := (c : Int)) (by omega) ?_
                  exact go c (by rw [hstep, if_neg hno, Nat.add_zero]) (by omega)
                refine w_iload F dX0_first_58 rfl ?_
                refine w_iload F dX0_first_60 rfl ?_
                refine w_iload F dX0_first_62 rfl ?_
                refine w_icmp_eq F (tgt := 95) dX0_first_64 (by decide) (by first | assumption | exact inR0 | exact (hR _ _ _).1 | (constructor <;> omega)) (by first | assumption | exact inR0 | exact (hR _ _ _).1 | (constructor <;> omega)) (fun h8 => ?_) (fun h8 => ?_)
                · have : m = i := by omega
                  subst this
                  rw [q1] at p1
                  have epq : q = p := by have := Option.some.inj p1; omega
                  subst epq
                  exact z95 (by unfold ahB; simp)
                · refine w_aload_n F dX0_first_67 rfl rfl ?_
                  refine w_get F (by omega) rfl rfl in_X0 2 (by decide) (Or.inl q542) rfl dX0_first_68 ?_
                  refine w_aload_n F dX0_first_71 rfl rfl ?_
                  refine w_get F (by omega) rfl rfl in_X0 13 (by decide) (Or.inl q553) rfl dX0_first_72 ?_
                  refine w_iload F dX0_first_75 rfl ?_
                  first | refine w_ialdN F (aD13 _) (by omega) (by decide) (by omega) dX0_first_77 ?_ | refine w_iald F (aD13 _) (by omega) (by decide) (by omega) (by omega) dX0_first_77 ?_
                  refine w_top p2 ?_
                  refine w_aload_n F dX0_first_78 rfl rfl ?_
                  refine w_get F (by omega) rfl rfl in_X0 13 (by decide) (Or.inl q553) rfl dX0_first_79 ?_
                  refine w_iload F dX0_first_82 rfl ?_
                  first | refine w_ialdN F (aD13 _) (by omega) (by decide) (by omega) dX0_first_84 ?_ | refine w_iald F (aD13 _) (by omega) (by decide) (by omega) (by omega) dX0_first_84 ?_
                  refine w_top q2 ?_
                  refine w_callV F (As := [_, _]) (ct_isDueAhead hE hA g (k := 1) (by omega) p3 q3) (lw_V q730 q444 q445 q71 q446) md_X1_isDueAhead (by omega) (cell_stO (by omega)) rfl rfl rfl rfl (Nat.le_of_ble_eq_true rfl) dX0_first_85 ⟨by omega, by omega⟩ ⟨by omega, by omega⟩ ?_
                  rintro _ _ ⟨rfl, rfl⟩
                  refine w_if_eq F (tgt := 95) dX0_first_88 (by decide) (b2i_R _) (fun h9 => ?_) (fun h9 => ?_)
                  · rw [b2i_0, ahd_b] at h9
                    exact z95 (fun w => h9 (ahB_t.mp w))
                  · rw [b2i_n0, ahd_b] at h9
                    refine w_iconst F dX0_first_91 ?_
                    refine w_goto F (tgt := 96) dX0_first_92 (by decide) ?_
                    refine w_iadd F dX0_first_96 ?_
                    refine w_top (z' := ((c + 1 : Nat) : Int)) (by omega) ?_
                    exact go (c + 1) (by rw [hstep, if_pos (ahB_t.mpr h9)]) (by omega)
          refine w_iload F dX0_first_34 rfl ?_
          refine w_aload_n F dX0_first_36 rfl rfl ?_
          refine w_getF F (fD12 _) (by omega) rfl in_X0 (by decide) (Or.inl q552) dX0_first_37 ?_
          refine w_top d2 ?_
          refine w_icmp_ge F (tgt := 134) dX0_first_40 (by decide) (by first | assumption | exact inR0 | exact (hR _ _ _).1 | (constructor <;> omega)) (by first | assumption | exact inR0 | exact (hR _ _ _).1 | (constructor <;> omega)) (fun h5 => ?_) (fun h5 => ?_)
          · omega
          · refine w_iconst F dX0_first_43 ?_
            refine w_istore F dX0_first_44 (by decide) rfl (lv' := [(0, _), (3, _), (4, _), (5, _)]) rfl ?_
            refine w_iconst F dX0_first_46 ?_
            refine w_istore F dX0_first_47 (by decide) rfl (lv' := [(0, _), (3, _), (4, _), (5, _), (6, _)]) rfl ?_
            exact inner (L.length + 1) 0 0 (by omega) (by omega) (by simp) (by omega)
      refine w_iconst F dX0_first_31 ?_
      refine w_istore F dX0_first_32 (by decide) rfl (lv' := [(0, _), (1, _), (2, _), (3, _), (4, _)]) rfl ?_
      refine w_keep [0, 3, 4] (lv' := [(0, _), (3, _), (4, _)]) rfl ?_
      exact outer L 0 rfl (by omega) rfl
    · rw [b2i_0] at h2
      exact no (fun q => h2 q.2)
end D10
