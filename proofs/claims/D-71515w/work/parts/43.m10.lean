/-! the model: setHolds -/
abbrev SQ : Type := TT × Nat × List Nat × (Nat → Bool)
theorem JR.off {fs : List Nat} {γ g : GG} (h : Off0 fs γ g) (hf : (fs.contains 3 || fs.contains 4) = false) {j : Nat} (r : JR (γ 0) j) : JR (g 0) j := by
  simp only [Bool.or_eq_false_iff] at hf
  unfold JR
  rw [h.f 3 hf.1, h.f 4 hf.2]
  exact r
theorem rkT_off {fs : List Nat} {γ g : GG} (h : Off0 fs γ g) (hf : (fs.contains 1 || fs.contains 3 || fs.contains 4) = false) : rkT (g 0) = rkT (γ 0) := by
  simp only [Bool.or_eq_false_iff] at hf
  unfold rkT
  rw [h.f 1 hf.1.1, h.f 3 hf.1.2, h.f 4 hf.2]
section M10
variable {l : Launch} {E : EE}
theorem ct_setHolds (hE : EOk E) (hm : 438 ≤ E.nk) (γ : GG) {r : Nat} {t : TT} {ns : List Nat} (hr0 : γ 0 5 0 = (r : Int)) (hr : RepM (γ 0) t r ns) (hnd : ns.Nodup) (htn : (tl t).Nodup) (hJ : ∀ j ∈ tl t, JR (γ 0) j) : Ct l yX8_setHolds cX8_setHolds 5 (some .int) E 500 32000 [.ref (E.ad 414)] γ (fun v g => v = some (.int (iI (ns.length : Int))) ∧ HL (g 0 17) (nzs ns) ∧ ns.map (g 0 16) = hl (rkT (γ 0)) t (fun _ => true) ∧ Off0 [12, 13, 16, 17, 18] γ g) 0 0 := by
  refine Ct.of hE (by decide) (Nat.le_of_ble_eq_true rfl) (fun Φ hLn hΦ F hfr hlo => ?_)
  subst hLn; subst hΦ
  have h414 := F.ok.1.2.2
  have hrc := F.rc
  have hrs := F.rs
  show Wg Φ 5 _ 0 0 0 [(0, _)] []
  refine w_rng (fun hR => ?_)
  have ht12 : (tl t).length ≤ 12 := nd_len 12 _ htn (fun z hz => (hJ z hz).1)
  have hnl : ns.length + 1 = 2 * (tl t).length := by rw [hr.len]; exact nn_tl t
  have hrl := hr.lt
  refine w_iconst F dX8_setHolds_0 ?_
  refine w_istore_n F dX8_setHolds_1 (by decide) rfl (lv' := [(0, _), (1, _)]) rfl ?_
  refine w_iconst F dX8_setHolds_2 ?_
  refine w_istore_n F dX8_setHolds_3 (by decide) rfl (lv' := [(0, _), (1, _), (2, _)]) rfl ?_
  refine w_aload_n F dX8_setHolds_4 rfl rfl ?_
  refine w_get F (by omega) cell_mdO rfl in_X8 18 (by decide) (Or.inl q890) rfl dX8_setHolds_5 ?_
  refine w_iconst F dX8_setHolds_8 ?_
  refine w_aload_n F dX8_setHolds_9 rfl rfl ?_
  refine w_getF F (fM5 _) (by omega) rfl in_X8 (by decide) (Or.inl q877) dX8_setHolds_10 ?_
  refine w_top hr0 ?_
  first | refine w_iastN F (aM18 _) (by omega) (by decide) rfl rfl (by first | assumption | exact inR0 | exact (hR _ _ _).1 | (constructor <;> omega)) (by omega) dX8_setHolds_13 ?_ | refine w_iast F (aM18 _) (by omega) (by decide) rfl rfl (by first | assumption | exact inR0 | exact (hR _ _ _).1 | (constructor <;> omega)) (by omega) (by omega) dX8_setHolds_13 ?_
  refine w_iconst F dX8_setHolds_14 ?_
  refine w_istore_n F dX8_setHolds_15 (by decide) rfl (lv' := [(0, _), (1, _), (2, _), (3, _)]) rfl ?_
  have loop : ∀ (m : Nat) (bs : List SQ) (dn : List Nat) (H : List Int) (hd : Nat) (g : GG), (bs.map fun q => nn q.1).sum < m → (∀ q ∈ bs, RepM (γ 0) q.1 q.2.1 q.2.2.1) → (∀ q ∈ bs, ∀ j ∈ tl q.1, q.2.2.2 j = !hd.testBit j) → HL (g 0 18) (bs.map fun q => (q.2.1 : Int)) → HL (g 0 17) (nzs dn) → dn.map (g 0 16) = H → dn ++ (bs.reverse.flatMap fun q => q.2.2.1) = ns → H ++ (bs.reverse.flatMap fun q => hl (rkT (γ 0)) q.1 q.2.2.2) = hl (rkT (γ 0)) t (fun _ => true) → (bs.flatMap fun q => tl q.1).Nodup → (∀ q ∈ bs, ∀ j ∈ tl q.1, j ∈ tl t) → hd < 4096 → Off0 [12, 13, 16, 17, 18] γ g →
      Wg Φ 5 g 0 0 16 [(0, .ref (Φ.E.ad 414)), (1, .int (iI (dn.length : Int))), (2, .int (iI (bs.length : Int))), (3, .int (iI (hd : Int)))] [] := by
    intro m
    induction m with
    | zero => intro bs dn H hd g h1; omega
    | succ m ih =>
      intro bs dn H hd g h1 h2 h3 h4 h5 h6 h7 h8 h9 h10 h11 h12
      have hbl : bs.length ≤ 12 := by
        have a1 := flat_len (fun q : SQ => q.1) bs
        have a2 := nd_len 12 _ h9 (fun z hz => by
          obtain ⟨q, q1, q2⟩ := List.mem_flatMap.mp hz
          exact (hJ z (h10 q q1 z q2)).1)
        omega
      rcases List.eq_nil_or_concat bs with e | ⟨bs', ⟨t1, x1, n1, S1⟩, e⟩
      · subst e
        simp at h7 h8
        refine w_iload_n F dX8_setHolds_16 rfl ?_
        refine w_if_le F (tgt := 131) dX8_setHolds_17 (by decide) (by first | assumption | exact inR0 | exact (hR _ _ _).1 | (constructor <;> omega)) (fun h => ?_) (fun h => ?_)
        · refine w_iload_n F dX8_setHolds_131 rfl ?_
          exact w_iret F (by omega) (by omega) (⟨by rw [h7], by rw [← h7]; exact h5, by rw [← h7, h6]; exact h8, h12⟩) dX8_setHolds_132
        · simp at h
      · subst e
        simp only [List.concat_eq_append, List.map_append, List.map_cons, List.map_nil, List.sum_append, List.sum_cons, List.sum_nil, List.length_append, List.length_cons, List.length_nil, List.flatMap_append, List.flatMap_cons, List.flatMap_nil, List.append_nil, List.reverse_append, List.reverse_cons, List.reverse_nil, List.nil_append, List.cons_append] at h1 h4 h7 h8 h9 hbl ⊢
        have hq : RepM (γ 0) t1 x1 n1 := h2 (t1, x1, n1, S1) (by simp)
        have hqS : ∀ j ∈ tl t1, S1 j = !hd.testBit j := h3 (t1, x1, n1, S1) (by simp)
        have hqt : ∀ j ∈ tl t1, j ∈ tl t := h10 (t1, x1, n1, S1) (by simp)
        have hql := hq.lt
        have hlast := h4.last
        simp only [List.length_map] at hlast
        obtain ⟨rr, hrr⟩ := hq.hd
        have hdn : dn.length + 1 ≤ 23 := by
          have := congrArg List.length h7
          rw [hrr] at this
          simp at this
          omega
        have hx1 : x1 ∉ dn := by
          intro hin
          rw [← h7] at hnd
          exact (List.nodup_append.mp hnd).2.2 x1 hin x1 (by rw [hrr]; simp) rfl
        have ht1 : (tl t1).length ≤ 12 := nd_len 12 _ (List.nodup_append.mp h9).2.1 (fun z hz => (hJ z (hqt z hz)).1)
        refine w_rng (fun hR => ?_)
        refine w_iload_n F dX8_setHolds_16 rfl ?_
        refine w_if_le F (tgt := 131) dX8_setHolds_17 (by decide) (by first | assumption | exact inR0 | exact (hR _ _ _).1 | (constructor <;> omega)) (fun h => ?_) (fun h => ?_)
        · omega
        · refine w_iinc F dX8_setHolds_20 rfl (by decide) rfl (lv' := [(0, _), (1, _), (2, _), (3, _)]) rfl ?_
          rw [show ((bs'.length + (0 + 1) : Nat) : Int) + -1 = (bs'.length : Int) by omega]
          refine w_aload_n F dX8_setHolds_23 rfl rfl ?_
          refine w_get F (by omega) cell_mdO rfl in_X8 18 (by decide) (Or.inl q890) rfl dX8_setHolds_24 ?_
          refine w_iload_n F dX8_setHolds_27 rfl ?_
          first | refine w_ialdN F (aM18 _) (by omega) (by decide) (by omega) dX8_setHolds_28 ?_ | refine w_iald F (aM18 _) (by omega) (by decide) (by omega) (by omega) dX8_setHolds_28 ?_
          refine w_top hlast ?_
          refine w_istore F dX8_setHolds_29 (by decide) rfl (lv' := [(0, _), (1, _), (2, _), (3, _), (4, _)]) rfl ?_
          refine w_aload_n F dX8_setHolds_31 rfl rfl ?_
          refine w_get F (by omega) cell_mdO rfl in_X8 17 (by decide) (Or.inl q889) rfl dX8_setHolds_32 ?_
          refine w_iload_n F dX8_setHolds_35 rfl ?_
          refine w_iload F dX8_setHolds_36 rfl ?_
          first | refine w_iastN F (aM17 _) (by omega) (by decide) rfl rfl (by first | assumption | exact inR0 | exact (hR _ _ _).1 | (constructor <;> omega)) (by omega) dX8_setHolds_38 ?_ | refine w_iast F (aM17 _) (by omega) (by decide) rfl rfl (by first | assumption | exact inR0 | exact (hR _ _ _).1 | (constructor <;> omega)) (by omega) (by omega) dX8_setHolds_38 ?_
          refine w_iinc F dX8_setHolds_39 rfl (by decide) rfl (lv' := [(0, _), (1, _), (2, _), (3, _), (4, _)]) rfl ?_
          refine w_aload_n F dX8_setHolds_42 rfl rfl ?_
          refine w_get F (by omega) cell_mdO rfl in_X8 16 (by decide) (Or.inl q888) rfl dX8_setHolds_43 ?_
          refine w_iload F dX8_setHolds_46 rfl ?_
          refine w_aload_n F dX8_setHolds_48 rfl rfl ?_
          refine w_aload_n F dX8_setHolds_49 rfl rfl ?_
          refine w_iload F dX8_setHolds_50 rfl ?_
          have o1 : Off0 [12, 13, 16, 17, 18] γ (gu g 0 17 dn.length (x1 : Int)) := h12.up (by decide)
          refine w_callV F (As := [_]) (ct_leaves hE hm _ (hq.off o1 rfl) ht1) (lw_V q860 q862 qs42 q88 q863) md_X8_leaves (by omega) cell_mdO rfl rfl rfl rfl (Nat.le_of_ble_eq_true rfl) dX8_setHolds_52 ⟨by omega, by omega⟩ ⟨by omega, by omega⟩ ?_
          rintro _ g2 ⟨rfl, hrow, o2⟩
          have o3 : Off0 [12, 13, 16, 17, 18] γ g2 := o1.tr (o2.mono (by decide))
          refine w_iload_n F dX8_setHolds_55 rfl ?_
          refine w_callV F (As := [_, _]) (ct_dueOf hE hm g2 hrow ht1 (fun j hj => (hJ j (hqt j hj)).off o3 rfl) h11) (lw_V q999 q1001 qs50 q88 q1002) md_X8_dueOf (by omega) cell_mdO rfl rfl rfl rfl (Nat.le_of_ble_eq_true rfl) dX8_setHolds_56 ⟨by omega, by omega⟩ ⟨by omega, by omega⟩ ?_
          rintro _ _ ⟨rfl, rfl⟩
          have hv : bst (rkT (g2 0)) (fun j => !hd.testBit j) (tl t1) = bst (rkT (γ 0)) S1 (tl t1) := by
            rw [rkT_off o3 rfl]
            exact bst_cg (fun _ _ => rfl) (fun j hj => (hqS j hj).symm)
          rw [hv]
          obtain ⟨v, hve⟩ : ∃ v, v = bst (rkT (γ 0)) S1 (tl t1) := ⟨_, rfl⟩
          rw [← hve]
          have hvin : v = -4 ∨ ∃ j : Nat, v = (j : Int) ∧ j ∈ tl t1 := by
            have := (bst_spec (rkT (γ 0)) S1 (tl t1)).in
            rw [← hve] at this
            rcases this with q | ⟨j, q, q2⟩
            · exact Or.inl q
            · exact Or.inr ⟨j, q, q2.1⟩
          have hvr : -4 ≤ v ∧ v < 12 := by
            rcases hvin with q | ⟨j, q, q2⟩
            · omega
            · have := (hJ j (hqt j q2)).1
              omega
          have w18 : HL (g2 0 18) (bs'.map fun q => (q.2.1 : Int)) := by rw [o2.f 18 rfl, gu_f (by decide)]; exact h4.pre
          have w17 : HL (g2 0 17) (nzs (dn ++ [x1])) := by
            rw [o2.f 17 rfl]
            show HL _ (List.map _ _)
            rw [List.map_append]
            exact h5.sn (by simp)
          have w16 : g2 0 16 = g 0 16 := by rw [o2.f 16 rfl, gu_f (by decide)]
          have hcom : ∀ (hd2 : Nat), hd2 < 4096 → (∀ i, hd2.testBit i = (hd.testBit i || decide ((i : Int) = v))) → Wg Φ 5 (gu g2 0 16 x1 v) 0 0 88 [(0, .ref (Φ.E.ad 414)), (1, .int (iI ((dn.length : Int) + 1))), (2, .int (iI (bs'.length : Int))), (3, .int (iI (hd2 : Int))), (4, .int (iI (x1 : Int)))] [] := by
            intro hd2 hd2l hd2b
            have o4 : Off0 [12, 13, 16, 17, 18] γ (gu g2 0 16 x1 v) := o3.up (by decide)
            have hm6 : (dn ++ [x1]).map (gu g2 0 16 x1 v 0 16) = H ++ [v] := by
              rw [List.map_append, List.map_cons, List.map_nil, gu_s]
              congr 1
              rw [← h6]
              refine List.map_congr_left (fun z hz => ?_)
              rw [gu_n (fun q => hx1 (by rw [← q.2.2]; exact hz)), w16]
            have hS2 : ∀ q ∈ bs', ∀ j ∈ tl q.1, q.2.2.2 j = !hd2.testBit j := by
              intro q hq2 j hj
              rw [h3 q (by simp [hq2]) j hj, hd2b j]
              have : (j : Int) ≠ v := by
                rcases hvin with e | ⟨i, e, e2⟩
                · omega
                · intro e3
                  have : j = i := by omega
                  subst this
                  exact (List.nodup_append.mp h9).2.2 j (List.mem_flatMap.mpr ⟨q, hq2, hj⟩) j e2 rfl
              simp [this]
            refine w_aload_n F dX8_setHolds_88 rfl rfl ?_
            refine w_iload F dX8_setHolds_89 rfl ?_
            refine w_callV F (As := [_]) (ct_isLeaf hE hm _ hql) (lw_V q841 q843 qs38 q88 q844) md_X8_isLeaf (by omega) cell_mdO rfl rfl rfl rfl (Nat.le_of_ble_eq_true rfl) dX8_setHolds_91 ⟨by omega, by omega⟩ ⟨by omega, by omega⟩ ?_
            rintro _ _ ⟨rfl, rfl⟩
            rw [o4.f 6 rfl]
            cases t1 with
            | leaf j =>
              obtain ⟨e1, e2, e3, e4, e5, e6, e7⟩ := hq
              refine w_if_ne F (tgt := 128) dX8_setHolds_94 (by decide) (b2i_R _) (fun h13 => ?_) (fun h13 => ?_)
              · refine w_goto F (tgt := 16) dX8_setHolds_128 (by decide) ?_
                refine w_keep [0, 1, 2, 3] (lv' := [(0, _), (1, _), (2, _), (3, _)]) rfl ?_
                rw [show (dn.length : Int) + 1 = ((dn ++ [x1]).length : Int) by simp]
                refine ih bs' (dn ++ [x1]) (H ++ [v]) hd2 _ (by simp [nn] at h1; omega) (fun q hq => h2 q (by simp [hq])) hS2 (w18.ot (by decide)) (w17.ot (by decide)) hm6 ?_ ?_ (List.nodup_append.mp h9).1 (fun q hq => h10 q (by simp [hq])) hd2l o4
                · rw [← h7, e1]; simp
                · rw [← h8, hve]; simp [hl, tl]
              · rw [b2i_0] at h13
                exact absurd e3 h13
            | branch κ a b =>
              obtain ⟨xa, xb, na, nb, e1, e2, e3, e4, e5, e6, e7⟩ := hq
              have hxa := e5.lt
              have hxb := e6.lt
              have hb2 : bs'.length + 2 ≤ 12 := by
                have a1 := flat_len (fun q : SQ => q.1) bs'
                have a2 := nd_len 12 _ h9 (fun z hz => by
                  rcases List.mem_append.mp hz with hz | hz
                  · obtain ⟨q, q1, q2⟩ := List.mem_flatMap.mp hz
                    exact (hJ z (h10 q (by simp [q1]) z q2)).1
                  · exact (hJ z (hqt z hz)).1)
                have a3 := tl_pos a
                have a4 := tl_pos b
                simp only [List.length_append, tl] at a2
                omega
              refine w_if_ne F (tgt := 128) dX8_setHolds_94 (by decide) (b2i_R _) (fun h13 => ?_) (fun h13 => ?_)
              · rw [b2i_n0] at h13
                omega
              · refine w_aload_n F dX8_setHolds_97 rfl rfl ?_
                refine w_get F (by omega) cell_mdO rfl in_X8 18 (by decide) (Or.inl q890) rfl dX8_setHolds_98 ?_
                refine w_iload_n F dX8_setHolds_101 rfl ?_
                refine w_aload_n F dX8_setHolds_102 rfl rfl ?_
                refine w_get F (by omega) cell_mdO rfl in_X8 7 (by decide) (Or.inl q879) rfl dX8_setHolds_103 ?_
                refine w_iload F dX8_setHolds_106 rfl ?_
                first | refine w_ialdN F (aM7 _) (by omega) (by decide) (by omega) dX8_setHolds_108 ?_ | refine w_iald F (aM7 _) (by omega) (by decide) (by omega) (by omega) dX8_setHolds_108 ?_
                refine w_top (z' := (xb : Int)) (by rw [o4.f 7 rfl]; exact e4) ?_
                first | refine w_iastN F (aM18 _) (by omega) (by decide) rfl rfl (by first | assumption | exact inR0 | exact (hR _ _ _).1 | (constructor <;> omega)) (by omega) dX8_setHolds_109 ?_ | refine w_iast F (aM18 _) (by omega) (by decide) rfl rfl (by first | assumption | exact inR0 | exact (hR _ _ _).1 | (constructor <;> omega)) (by omega) (by omega) dX8_setHolds_109 ?_
                refine w_aload_n F dX8_setHolds_110 rfl rfl ?_
                refine w_get F (by omega) cell_mdO rfl in_X8 18 (by decide) (Or.inl q890) rfl dX8_setHolds_111 ?_
                refine w_iload_n F dX8_setHolds_114 rfl ?_
                refine w_iconst F dX8_setHolds_115 ?_
                refine w_iadd F dX8_setHolds_116 ?_
                refine w_top (z' := ((bs'.length + 1 : Nat) : Int)) rfl ?_
                refine w_aload_n F dX8_setHolds_117 rfl rfl ?_
                refine w_get F (by omega) cell_mdO rfl in_X8 6 (by decide) (Or.inl q878) rfl dX8_setHolds_118 ?_
                refine w_iload F dX8_setHolds_121 rfl ?_
                first | refine w_ialdN F (aM6 _) (by omega) (by decide) (by omega) dX8_setHolds_123 ?_ | refine w_iald F (aM6 _) (by omega) (by decide) (by omega) (by omega) dX8_setHolds_123 ?_
                refine w_top (z' := (xa : Int)) (by rw [gu_f (by decide), o4.f 6 rfl]; exact e3) ?_
                first | refine w_iastN F (aM18 _) (by omega) (by decide) rfl rfl (by first | assumption | exact inR0 | exact (hR _ _ _).1 | (constructor <;> omega)) (by omega) dX8_setHolds_124 ?_ | refine w_iast F (aM18 _) (by omega) (by decide) rfl rfl (by first | assumption | exact inR0 | exact (hR _ _ _).1 | (constructor <;> omega)) (by omega) (by omega) dX8_setHolds_124 ?_
                refine w_iinc F dX8_setHolds_125 rfl (by decide) rfl (lv' := [(0, _), (1, _), (2, _), (3, _), (4, _)]) rfl ?_
                refine w_goto F (tgt := 16) dX8_setHolds_128 (by decide) ?_
                refine w_keep [0, 1, 2, 3] (lv' := [(0, _), (1, _), (2, _), (3, _)]) rfl ?_
                rw [show (dn.length : Int) + 1 = ((dn ++ [x1]).length : Int) by simp]
                have e9 : (bs'.length : Int) + 2 = (((bs' ++ [(b, xb, nb, wo S1 v)] ++ [(a, xa, na, wo S1 v)]).length : Nat) : Int) := by simp
                rw [e9]
                have hwo : ∀ j ∈ tl a ++ tl b, wo S1 v j = !hd2.testBit j := by
                  intro j hj
                  unfold wo
                  rw [hqS j hj, hd2b j]
                  cases hd.testBit j <;> cases decide ((j : Int) = v) <;> rfl
                refine ih (bs' ++ [(b, xb, nb, wo S1 v)] ++ [(a, xa, na, wo S1 v)]) (dn ++ [x1]) (H ++ [v]) hd2 _ ?_ ?_ ?_ ?_ ((w17.ot (by decide)).ot (by decide) |>.ot (by decide)) ?_ ?_ ?_ ?_ ?_ hd2l ((o4.up (by decide)).up (by decide))
                · simp [nn] at h1 ⊢; omega
                · intro q hq
                  simp at hq
                  rcases hq with hq | hq | hq
                  · exact h2 q (by simp [hq])
                  · rw [hq]; exact e6
                  · rw [hq]; exact e5
                · intro q hq
                  simp at hq
                  rcases hq with hq | hq | hq
                  · exact hS2 q hq
                  · rw [hq]; exact fun j hj => hwo j (List.mem_append_right _ hj)
                  · rw [hq]; exact fun j hj => hwo j (List.mem_append_left _ hj)
                · rw [List.map_append, List.map_append]
                  exact ((w18.ot (by decide)).sn (by simp)).sn (by simp)
                · rw [gu_f (by decide), gu_f (by decide)]
                  exact hm6
                · rw [← h7, e1]; simp
                · rw [← h8, hve]; simp [hl, tl]
                · refine (List.Perm.nodup_iff ?_).mp h9
                  rw [List.perm_iff_count]
                  intro z
                  simp [tl]
                  omega
                · intro q hq
                  simp at hq
                  rcases hq with hq | hq | hq
                  · exact h10 q (by simp [hq])
                  · rw [hq]; exact fun j hj => hqt j (List.mem_append_right _ hj)
                  · rw [hq]; exact fun j hj => hqt j (List.mem_append_left _ hj)
          refine w_rng (fun hR => ?_)
          first | refine w_iastN F (aM16 _) (by omega) (by decide) rfl rfl (by first | assumption | exact inR0 | exact (hR _ _ _).1 | (constructor <;> omega)) (by omega) dX8_setHolds_59 ?_ | refine w_iast F (aM16 _) (by omega) (by decide) rfl rfl (by first | assumption | exact inR0 | exact (hR _ _ _).1 | (constructor <;> omega)) (by omega) (by omega) dX8_setHolds_59 ?_
          refine w_iload_n F dX8_setHolds_60 rfl ?_
          refine w_aload_n F dX8_setHolds_61 rfl rfl ?_
          refine w_get F (by omega) cell_mdO rfl in_X8 16 (by decide) (Or.inl q888) rfl dX8_setHolds_62 ?_
          refine w_iload F dX8_setHolds_65 rfl ?_
          first | refine w_ialdN F (aM16 _) (by omega) (by decide) (by omega) dX8_setHolds_67 ?_ | refine w_iald F (aM16 _) (by omega) (by decide) (by omega) (by omega) dX8_setHolds_67 ?_
          refine w_top (z' := v) (gu_s _ _ _ _ _) ?_
          refine w_bipush F dX8_setHolds_68 rfl ?_
          refine w_icmp_ne F (tgt := 77) dX8_setHolds_70 (by decide) (by first | assumption | exact inR0 | exact (hR _ _ _).1 | (constructor <;> omega)) (by first | assumption | exact inR0 | exact (hR _ _ _).1 | (constructor <;> omega)) (fun h14 => ?_) (fun h14 => ?_)
          · obtain ⟨jv, rfl, hjv⟩ : ∃ j : Nat, v = (j : Int) ∧ j ∈ tl t1 := by
              rcases hvin with q | q
              · exact absurd q h14
              · exact q
            have hjv12 := (hJ jv (hqt jv hjv)).1
            refine w_iconst F dX8_setHolds_77 ?_
            refine w_aload_n F dX8_setHolds_78 rfl rfl ?_
            refine w_get F (by omega) cell_mdO rfl in_X8 16 (by decide) (Or.inl q888) rfl dX8_setHolds_79 ?_
            refine w_iload F dX8_setHolds_82 rfl ?_
            first | refine w_ialdN F (aM16 _) (by omega) (by decide) (by omega) dX8_setHolds_84 ?_ | refine w_iald F (aM16 _) (by omega) (by decide) (by omega) (by omega) dX8_setHolds_84 ?_
            refine w_top (z' := (jv : Int)) (gu_s _ _ _ _ _) ?_
            refine w_ishl1 F (by omega) dX8_setHolds_85 ?_
            refine w_ior F dX8_setHolds_86 ?_
            refine w_istore_n F dX8_setHolds_87 (by decide) rfl (lv' := [(0, _), (1, _), (2, _), (3, _), (4, _)]) rfl ?_
            refine hcom (hd ||| 2 ^ jv) (or_lt h11 hjv12) (fun i => ?_)
            rw [or_bit]
            congr 1
            simp
            omega
          · refine w_iconst F dX8_setHolds_73 ?_
            refine w_goto F (tgt := 86) dX8_setHolds_74 (by decide) ?_
            refine w_ior F dX8_setHolds_86 ?_
            refine w_istore_n F dX8_setHolds_87 (by decide) rfl (lv' := [(0, _), (1, _), (2, _), (3, _), (4, _)]) rfl ?_
            have := hcom hd h11 (fun i => by have : ¬ ((i : Int) = v) := by omega
                                             simp [this])
            rw [show ((hd : Nat) : Int) = ((hd ||| 0 : Nat) : Int) by simp] at this
            exact this
  exact loop (nn t + 1) [(t, r, ns, fun _ => true)] [] [] 0 _ (by simp) (by simpa using hr) (by simp) (HL.sn (L := []) (HL.nil _) rfl) (HL.nil _) rfl (by simp) (by simp) (by simpa using htn) (by simp) (by omega) (Off0.rf.up (by decide))
end M10
