/-! the model: looksAt, found -/
/-- a look: how many nodes are looked at, which jobs are met -/
def lk (R st : Nat → Int) (a b u : Int) : TT → (Nat → Bool) → Nat × List Int
  | .leaf j, S => if bst R S [j] = -4 ∨ R (bst R S [j]).toNat > u then (1, []) else (1, if a ≤ st (bst R S [j]).toNat ∧ st (bst R S [j]).toNat ≤ b then [bst R S [j]] else [])
  | .branch s x y, S => if bst R S (tl x ++ tl y) = -4 ∨ R (bst R S (tl x ++ tl y)).toNat > u then (1, []) else
      (1 + (if a ≤ ((s / 16 : Nat) : Int) then (lk R st a b u x (wo S (bst R S (tl x ++ tl y)))).1 else 0) + (if ((s / 16 : Nat) : Int) ≤ b then (lk R st a b u y (wo S (bst R S (tl x ++ tl y)))).1 else 0),
        (if a ≤ st (bst R S (tl x ++ tl y)).toNat ∧ st (bst R S (tl x ++ tl y)).toNat ≤ b then [bst R S (tl x ++ tl y)] else []) ++ ((if a ≤ ((s / 16 : Nat) : Int) then (lk R st a b u x (wo S (bst R S (tl x ++ tl y)))).2 else []) ++ (if ((s / 16 : Nat) : Int) ≤ b then (lk R st a b u y (wo S (bst R S (tl x ++ tl y)))).2 else [])))
theorem wo_cnt {S : Nat → Bool} {k : Nat} : ∀ (L : List Nat), L.countP (wo S (k : Int)) ≤ L.countP S ∧ (k ∈ L → S k = true → L.countP (wo S (k : Int)) + 1 ≤ L.countP S)
  | [] => ⟨Nat.le_refl _, fun h => by simp at h⟩
  | x :: L => by
    have ih := wo_cnt (S := S) (k := k) L
    rw [List.countP_cons, List.countP_cons]
    by_cases e : x = k
    · subst e
      have hw : wo S (x : Int) x = false := by simp [wo]
      rw [hw]
      refine ⟨by have := ih.1; simp; omega, fun _ hs => ?_⟩
      rw [hs]
      have := ih.1
      simp
      omega
    · have hw : wo S (k : Int) x = S x := by
        have : ¬ (x : Int) = (k : Int) := by omega
        simp [wo, this]
      rw [hw]
      refine ⟨by have := ih.1; omega, fun h hs => ?_⟩
      have h2 : k ∈ L := by
        rcases List.mem_cons.mp h with q | q
        · exact absurd q.symm e
        · exact q
      have := ih.2 h2 hs
      omega
theorem lk_len {R st : Nat → Int} {a b u : Int} : ∀ (t : TT) (S : Nat → Bool), (lk R st a b u t S).2.length ≤ (tl t).countP S
  | .leaf j, S => by
    simp only [lk, tl]
    split
    · simp
    · rename_i h
      rcases (bst_spec R S [j]).in with q | ⟨i, q, q2, q3⟩
      · exact absurd (Or.inl q) h
      · have : i = j := by simpa using q2
        subst this
        split <;> simp [q3]
  | .branch s x y, S => by
    simp only [lk, tl]
    split
    · simp
    · rename_i h
      rcases (bst_spec R S (tl x ++ tl y)).in with q | ⟨i, q, q2, q3⟩
      · exact absurd (Or.inl q) h
      · have h1 := lk_len (R := R) (st := st) (a := a) (b := b) (u := u) x (wo S (i : Int))
        have h2 := lk_len (R := R) (st := st) (a := a) (b := b) (u := u) y (wo S (i : Int))
        have h3 := (wo_cnt (S := S) (k := i) (tl x ++ tl y)).2 q2 q3
        rw [List.countP_append] at h3
        rw [q]
        have l1 : (if a ≤ ((s / 16 : Nat) : Int) then (lk R st a b u x (wo S (i : Int))).2 else []).length ≤ (tl x).countP (wo S (i : Int)) := by split <;> simp_all
        have l2 : (if ((s / 16 : Nat) : Int) ≤ b then (lk R st a b u y (wo S (i : Int))).2 else []).length ≤ (tl y).countP (wo S (i : Int)) := by split <;> simp_all
        have l0 : (if a ≤ st ((i : Int)).toNat ∧ st ((i : Int)).toNat ≤ b then [(i : Int)] else []).length ≤ 1 := by split <;> simp
        rw [List.length_append, List.length_append]
        omega
theorem lk_cg {R R' st st' : Nat → Int} {a b u : Int} : ∀ (t : TT) (S : Nat → Bool), (∀ j ∈ tl t, R j = R' j) → (∀ j ∈ tl t, st j = st' j) → lk R st a b u t S = lk R' st' a b u t S
  | .leaf j, S, hR, hs => by
    have e : bst R S [j] = bst R' S [j] := bst_cg hR (fun _ _ => rfl)
    simp only [lk]
    rw [e]
    rcases (bst_spec R' S [j]).in with q | ⟨i, q, q2, q3⟩
    · rw [q, if_pos (Or.inl rfl), if_pos (Or.inl rfl)]
    · rw [q, Int.toNat_natCast, hR i q2, hs i q2]
  | .branch s x y, S, hR, hs => by
    have e : bst R S (tl x ++ tl y) = bst R' S (tl x ++ tl y) := bst_cg hR (fun _ _ => rfl)
    simp only [lk]
    rw [e]
    rcases (bst_spec R' S (tl x ++ tl y)).in with q | ⟨i, q, q2, q3⟩
    · rw [q, if_pos (Or.inl rfl), if_pos (Or.inl rfl)]
    · rw [q, Int.toNat_natCast, hR i q2, hs i q2, lk_cg x _ (fun j hj => hR j (List.mem_append_left _ hj)) (fun j hj => hs j (List.mem_append_left _ hj)), lk_cg y _ (fun j hj => hR j (List.mem_append_right _ hj)) (fun j hj => hs j (List.mem_append_right _ hj))]
def qLk (v : VV) (a b u : Int) : Nat × List Int := lk (rkT v.2.1) (v.2.1 2) a b u v.2.2 (fun _ => true)
def qFound (v : VV) (a b u w : Int) : Int := if w < 0 then (if w = -1 then ((qLk v a b u).2.length : Int) else ((qLk v a b u).1 : Int)) else if w < ((qLk v a b u).2.length : Int) then (qLk v a b u).2.getD w.toNat 0 else -4
abbrev okF (a b u w : Int) : Prop := btw a b ∧ (0 ≤ u ∧ u ≤ 200) ∧ -2 ≤ w
section M24
variable {l : Launch} {E : EE}
theorem ct_looksAt (hE : EOk E) (hm : 438 ≤ E.nk) (γ : GG) {r : Nat} {t : TT} {ns : List Nat} (hr0 : γ 0 5 0 = (r : Int)) (hr : RepM (γ 0) t r ns) (hnd : ns.Nodup) (htn : (tl t).Nodup) (hJ : ∀ j ∈ tl t, JR (γ 0) j) {a b u : Int} (ha : InR a) (hb : InR b) (hu : InR u) : Ct l yX8_looksAt cX8_looksAt 10 (some .int) E 600 36000 [.ref (E.ad 414), .int (iI a), .int (iI b), .int (iI u)] γ (fun v g => v = some (.int (iI ((lk (rkT (γ 0)) (γ 0 2) a b u t (fun _ => true)).1 : Int))) ∧ HL (g 0 24) (lk (rkT (γ 0)) (γ 0 2) a b u t (fun _ => true)).2 ∧ g 0 25 0 = ((lk (rkT (γ 0)) (γ 0 2) a b u t (fun _ => true)).2.length : Int) ∧ Off0 [12, 13, 16, 17, 18, 24, 25] γ g) 0 0 := by
  refine Ct.of hE (by decide) (Nat.le_of_ble_eq_true rfl) (fun Φ hLn hΦ F hfr hlo => ?_)
  subst hLn; subst hΦ
  have h414 := F.ok.1.2.2
  have hrc := F.rc
  have hrs := F.rs
  show Wg Φ 10 _ 0 0 0 [(0, _), (1, _), (2, _), (3, _)] []
  refine w_rng (fun hR => ?_)
  have hrl := hr.lt
  obtain ⟨tg, htg⟩ : ∃ t2, t2 = lk (rkT (γ 0)) (γ 0 2) a b u t (fun _ => true) := ⟨_, rfl⟩
  have htl : tg.2.length ≤ 12 := by
    rw [htg]
    have h1 := lk_len (R := rkT (γ 0)) (st := γ 0 2) (a := a) (b := b) (u := u) t (fun _ => true)
    have h2 := List.countP_le_length (p := fun _ : Nat => true) (l := tl t)
    have h3 := nd_len 12 _ htn (fun z hz => (hJ z hz).1)
    omega
  refine w_aload_n F dX8_looksAt_0 rfl rfl ?_
  refine w_callV F (As := []) (ct_setHolds hE hm γ hr0 hr hnd htn hJ) (lw_V q995 q997 qs49 q88 q998) md_X8_setHolds (by omega) cell_mdO rfl rfl rfl rfl (Nat.le_of_ble_eq_true rfl) dX8_looksAt_1 ⟨by omega, by omega⟩ ⟨by omega, by omega⟩ ?_
  rintro _ g0 ⟨rfl, h17, h16, o1⟩
  refine w_pop F dX8_looksAt_4 rfl ?_
  refine w_aload_n F dX8_looksAt_5 rfl rfl ?_
  refine w_iconst F dX8_looksAt_6 ?_
  refine w_putF F (fM25 _) (by omega) rfl in_X8 tyX8 tyX8_ok nmX8 (by decide) (Or.inl q897) rfl rfl rfl (by first | assumption | exact inR0 | exact (hR _ _ _).1 | (constructor <;> omega)) (fun h => by cases h) (fun h => by cases h) dX8_looksAt_7 ?_
  refine w_iconst F dX8_looksAt_10 ?_
  refine w_istore F dX8_looksAt_11 (by decide) rfl (lv' := [(0, _), (1, _), (2, _), (3, _), (4, _)]) rfl ?_
  refine w_iconst F dX8_looksAt_13 ?_
  refine w_istore F dX8_looksAt_14 (by decide) rfl (lv' := [(0, _), (1, _), (2, _), (3, _), (4, _), (5, _)]) rfl ?_
  refine w_aload_n F dX8_looksAt_16 rfl rfl ?_
  refine w_get F (by omega) cell_mdO rfl in_X8 18 (by decide) (Or.inl q890) rfl dX8_looksAt_17 ?_
  refine w_iconst F dX8_looksAt_20 ?_
  refine w_aload_n F dX8_looksAt_21 rfl rfl ?_
  refine w_getF F (fM5 _) (by omega) rfl in_X8 (by decide) (Or.inl q877) dX8_looksAt_22 ?_
  refine w_top (z' := (r : Int)) (by rw [gu_f (by decide), o1.f 5 rfl]; exact hr0) ?_
  first | refine w_iastN F (aM18 _) (by omega) (by decide) rfl rfl (by first | assumption | exact inR0 | exact (hR _ _ _).1 | (constructor <;> omega)) (by omega) dX8_looksAt_25 ?_ | refine w_iast F (aM18 _) (by omega) (by decide) rfl rfl (by first | assumption | exact inR0 | exact (hR _ _ _).1 | (constructor <;> omega)) (by omega) (by omega) dX8_looksAt_25 ?_
  have loop : ∀ (m : Nat) (bs : List SQ) (n : Nat) (mt : List Int) (g : GG), (bs.map fun q => nn q.1).sum < m → n + (bs.map fun q => nn q.1).sum ≤ 100 → (∀ q ∈ bs, RepM (γ 0) q.1 q.2.1 q.2.2.1 ∧ q.2.2.1.map (g0 0 16) = hl (rkT (γ 0)) q.1 q.2.2.2) → HL (g 0 18) (bs.map fun q => (q.2.1 : Int)) → HL (g 0 24) mt → g 0 25 0 = (mt.length : Int) → n + (bs.map fun q => (lk (rkT (γ 0)) (γ 0 2) a b u q.1 q.2.2.2).1).sum = tg.1 → mt ++ (bs.reverse.flatMap fun q => (lk (rkT (γ 0)) (γ 0 2) a b u q.1 q.2.2.2).2) = tg.2 → (bs.flatMap fun q => tl q.1).Nodup → (∀ q ∈ bs, ∀ j ∈ tl q.1, j ∈ tl t) → g 0 16 = g0 0 16 → Off0 [12, 13, 16, 17, 18, 24, 25] γ g →
      Wg Φ 10 g 0 0 26 [(0, .ref (Φ.E.ad 414)), (1, .int (iI a)), (2, .int (iI b)), (3, .int (iI u)), (4, .int (iI (n : Int))), (5, .int (iI (bs.length : Int)))] [] := by
    intro m
    induction m with
    | zero => intro bs n mt g h1; omega
    | succ m ih =>
      intro bs n mt g h1 hn h2 h4 h5 h6 h7 h8 h9 h10 h11 h12
      have hbl : bs.length ≤ 12 := by
        have a1 := flat_len (fun q : SQ => q.1) bs
        have a2 := nd_len 12 _ h9 (fun z hz => by
          obtain ⟨q, q1, q2⟩ := List.mem_flatMap.mp hz
          exact (hJ z (h10 q q1 z q2)).1)
        omega
      rcases List.eq_nil_or_concat bs with e | ⟨bs', ⟨t1, x1, n1, S1⟩, e⟩
      · subst e
        simp at h7 h8
        refine w_iload F dX8_looksAt_26 rfl ?_
        refine w_if_le F (tgt := 203) dX8_looksAt_28 (by decide) (by first | assumption | exact inR0 | exact (hR _ _ _).1 | (constructor <;> omega)) (fun h => ?_) (fun h => ?_)
        · refine w_iload F dX8_looksAt_203 rfl ?_
          exact w_iret F (by omega) (by omega) (⟨by rw [← htg, ← h7], by rw [← htg, ← h8]; exact h5, by rw [← htg, ← h8]; exact h6, h12⟩) dX8_looksAt_205
        · simp at h
      · subst e
        simp only [List.concat_eq_append, List.map_append, List.map_cons, List.map_nil, List.sum_append, List.sum_cons, List.sum_nil, List.length_append, List.length_cons, List.length_nil, List.flatMap_append, List.flatMap_cons, List.flatMap_nil, List.append_nil, List.reverse_append, List.reverse_cons, List.reverse_nil, List.nil_append, List.cons_append] at h1 hn h4 h7 h8 h9 hbl ⊢
        obtain ⟨hq, hqh⟩ : RepM (γ 0) t1 x1 n1 ∧ n1.map (g0 0 16) = hl (rkT (γ 0)) t1 S1 := h2 (t1, x1, n1, S1) (by simp)
        have hqt : ∀ j ∈ tl t1, j ∈ tl t := h10 (t1, x1, n1, S1) (by simp)
        have hql := hq.lt
        have hnp := nn_pos t1
        have hlast := h4.last
        simp only [List.length_map] at hlast
        obtain ⟨rr, hrr⟩ := hq.hd
        obtain ⟨v, hve⟩ : ∃ v, v = bst (rkT (γ 0)) S1 (tl t1) := ⟨_, rfl⟩
        have hv16 : g 0 16 x1 = v := by
          obtain ⟨r2, hr2⟩ := hl_hd (rkT (γ 0)) t1 S1
          rw [hrr, hr2] at hqh
          simp at hqh
          rw [h11, hve]
          exact hqh.1
        have hvin : v = -4 ∨ ∃ j : Nat, v = (j : Int) ∧ j ∈ tl t1 := by
          have := (bst_spec (rkT (γ 0)) S1 (tl t1)).in
          rw [← hve] at this
          rcases this with q | ⟨j, q, q2⟩
          · exact Or.inl q
          · exact Or.inr ⟨j, q, q2.1⟩
        have hvr : -4 ≤ v ∧ v < 12 := by
          rcases hvin with q | ⟨j, q, q2⟩
          · omega
          · have := (hJ j (hqt j q2)).1
            omega
        have hcut : lk (rkT (γ 0)) (γ 0 2) a b u t1 S1 = (1, []) → Wg Φ 10 g 0 0 26 [(0, .ref (Φ.E.ad 414)), (1, .int (iI a)), (2, .int (iI b)), (3, .int (iI u)), (4, .int (iI ((n : Int) + 1))), (5, .int (iI (bs'.length : Int)))] [] := by
          intro hlk
          rw [hlk] at h7 h8
          rw [show (n : Int) + 1 = ((n + 1 : Nat) : Int) by omega]
          refine ih bs' (n + 1) mt g (by omega) (by omega) (fun q hq => h2 q (by simp [hq])) h4.pre h5 h6 (by omega) (by simpa using h8) (List.nodup_append.mp h9).1 (fun q hq => h10 q (by simp [hq])) h11 h12
        refine w_rng (fun hR => ?_)
        refine w_iload F dX8_looksAt_26 rfl ?_
        refine w_if_le F (tgt := 203) dX8_looksAt_28 (by decide) (by first | assumption | exact inR0 | exact (hR _ _ _).1 | (constructor <;> omega)) (fun h => ?_) (fun h => ?_)
        · omega
        · refine w_iinc F dX8_looksAt_31 rfl (by decide) rfl (lv' := [(0, _), (1, _), (2, _), (3, _), (4, _), (5, _)]) rfl ?_
          rw [show ((bs'.length + (0 + 1) : Nat) : Int) + -1 = (bs'.length : Int) by omega]
          refine w_aload_n F dX8_looksAt_34 rfl rfl ?_
          refine w_get F (by omega) cell_mdO rfl in_X8 18 (by decide) (Or.inl q890) rfl dX8_looksAt_35 ?_
          refine w_iload F dX8_looksAt_38 rfl ?_
          first | refine w_ialdN F (aM18 _) (by omega) (by decide) (by omega) dX8_looksAt_40 ?_ | refine w_iald F (aM18 _) (by omega) (by decide) (by omega) (by omega) dX8_looksAt_40 ?_
          refine w_top hlast ?_
          refine w_istore F dX8_looksAt_41 (by decide) rfl (lv' := [(0, _), (1, _), (2, _), (3, _), (4, _), (5, _), (6, _)]) rfl ?_
          refine w_aload_n F dX8_looksAt_43 rfl rfl ?_
          refine w_get F (by omega) cell_mdO rfl in_X8 16 (by decide) (Or.inl q888) rfl dX8_looksAt_44 ?_
          refine w_iload F dX8_looksAt_47 rfl ?_
          first | refine w_ialdN F (aM16 _) (by omega) (by decide) (by omega) dX8_looksAt_49 ?_ | refine w_iald F (aM16 _) (by omega) (by decide) (by omega) (by omega) dX8_looksAt_49 ?_
          refine w_top hv16 ?_
          refine w_istore F dX8_looksAt_50 (by decide) rfl (lv' := [(0, _), (1, _), (2, _), (3, _), (4, _), (5, _), (6, _), (7, _)]) rfl ?_
          refine w_iinc F dX8_looksAt_52 rfl (by decide) rfl (lv' := [(0, _), (1, _), (2, _), (3, _), (4, _), (5, _), (6, _), (7, _)]) rfl ?_
          refine w_iload F dX8_looksAt_55 rfl ?_
          refine w_bipush F dX8_looksAt_57 rfl ?_
          refine w_icmp_eq F (tgt := 26) dX8_looksAt_59 (by decide) (by first | assumption | exact inR0 | exact (hR _ _ _).1 | (constructor <;> omega)) (by first | assumption | exact inR0 | exact (hR _ _ _).1 | (constructor <;> omega)) (fun h13 => ?_) (fun h13 => ?_)
          · refine w_keep [0, 1, 2, 3, 4, 5] (lv' := [(0, _), (1, _), (2, _), (3, _), (4, _), (5, _)]) rfl ?_
            refine hcut ?_
            cases t1 with
            | leaf j => simp only [lk]; rw [if_pos (Or.inl (by rw [← h13, hve]; rfl))]
            | branch s x y => simp only [lk]; rw [if_pos (Or.inl (by rw [← h13, hve]; rfl))]
          · obtain ⟨jv, rfl, hjv⟩ : ∃ j : Nat, v = (j : Int) ∧ j ∈ tl t1 := by
              rcases hvin with q | q
              · exact absurd q h13
              · exact q
            have jr := hJ jv (hqt jv hjv)
            have jr' : JR (g 0) jv := jr.off h12 rfl
            have hrk : rk (g 0 1 jv) (g 0 4 jv) (g 0 3 jv) = rkT (γ 0) jv := by rw [← rkT_off h12 rfl]; rfl
            have rj := rk_in (k := γ 0 1 jv) jr.2.1.1 jr.2.1.2 jr.2.2.1 jr.2.2.2
            have rj2 : 0 ≤ rkT (γ 0) jv ∧ rkT (γ 0) jv ≤ 1100 := rj
            refine w_aload_n F dX8_looksAt_62 rfl rfl ?_
            refine w_iload F dX8_looksAt_63 rfl ?_
            refine w_callV F (As := [_]) (ct_rank hE hm g jr'.1 jr'.2.1.1 jr'.2.1.2 jr'.2.2.1 jr'.2.2.2) (lw_V q983 q985 qs46 q88 q986) md_X8_rank (by omega) cell_mdO rfl rfl rfl rfl (Nat.le_of_ble_eq_true rfl) dX8_looksAt_65 ⟨by omega, by omega⟩ ⟨by omega, by omega⟩ ?_
            rintro _ _ ⟨rfl, rfl⟩
            rw [hrk]
            refine w_iload_n F dX8_looksAt_68 rfl ?_
            refine w_icmp_le F (tgt := 75) dX8_looksAt_69 (by decide) (by first | assumption | exact inR0 | exact (hR _ _ _).1 | (constructor <;> omega)) (by first | assumption | exact inR0 | exact (hR _ _ _).1 | (constructor <;> omega)) (fun h14 => ?_) (fun h14 => ?_)
            · obtain ⟨hmet, hmt⟩ : ∃ L : List Int, L = if a ≤ γ 0 2 jv ∧ γ 0 2 jv ≤ b then [(jv : Int)] else [] := ⟨_, rfl⟩
              have hlm : ∃ L, (lk (rkT (γ 0)) (γ 0 2) a b u t1 S1).2 = hmet ++ L := by
                cases t1 with
                | leaf j =>
                  have e : bst (rkT (γ 0)) S1 [j] = (jv : Int) := hve.symm
                  simp only [lk]
                  rw [e, Int.toNat_natCast, if_neg (by omega), ← hmt]
                  exact ⟨[], by simp⟩
                | branch s x y =>
                  have e : bst (rkT (γ 0)) S1 (tl x ++ tl y) = (jv : Int) := hve.symm
                  simp only [lk]
                  rw [e, Int.toNat_natCast, if_neg (by omega), ← hmt]
                  exact ⟨_, rfl⟩
              have hbd : mt.length + hmet.length ≤ 12 := by
                obtain ⟨L, hL⟩ := hlm
                have := congrArg List.length h8
                rw [hL] at this
                simp only [List.length_append] at this
                omega
              have hcom : ∀ g2 : GG, HL (g2 0 24) (mt ++ hmet) → g2 0 25 0 = ((mt ++ hmet).length : Int) → g2 0 16 = g0 0 16 → g2 0 18 = g 0 18 → Off0 [12, 13, 16, 17, 18, 24, 25] γ g2 → Wg Φ 10 g2 0 0 111 [(0, .ref (Φ.E.ad 414)), (1, .int (iI a)), (2, .int (iI b)), (3, .int (iI u)), (4, .int (iI ((n : Int) + 1))), (5, .int (iI (bs'.length : Int))), (6, .int (iI (x1 : Int))), (7, .int (iI (jv : Int)))] [] := by
                intro g2 k1 k2 k3 k4 k5
                rw [show (n : Int) + 1 = ((n + 1 : Nat) : Int) by omega]
                refine w_rng (fun hR => ?_)
                refine w_aload_n F dX8_looksAt_111 rfl rfl ?_
                refine w_iload F dX8_looksAt_112 rfl ?_
                refine w_callV F (As := [_]) (ct_isLeaf hE hm _ hql) (lw_V q841 q843 qs38 q88 q844) md_X8_isLeaf (by omega) cell_mdO rfl rfl rfl rfl (Nat.le_of_ble_eq_true rfl) dX8_looksAt_114 ⟨by omega, by omega⟩ ⟨by omega, by omega⟩ ?_
                rintro _ _ ⟨rfl, rfl⟩
                rw [k5.f 6 rfl]
                cases t1 with
                | leaf j =>
                  have e : bst (rkT (γ 0)) S1 [j] = (jv : Int) := hve.symm
                  have hlk : lk (rkT (γ 0)) (γ 0 2) a b u (.leaf j) S1 = (1, hmet) := by
                    simp only [lk]
                    rw [e, Int.toNat_natCast, if_neg (by omega), ← hmt]
                  rw [hlk] at h7 h8
                  obtain ⟨e1, e2, e3, e4, e5, e6, e7⟩ := hq
                  refine w_if_ne F (tgt := 200) dX8_looksAt_117 (by decide) (b2i_R _) (fun h15 => ?_) (fun h15 => ?_)
                  · refine w_goto F (tgt := 26) dX8_looksAt_200 (by decide) ?_
                    refine w_keep [0, 1, 2, 3, 4, 5] (lv' := [(0, _), (1, _), (2, _), (3, _), (4, _), (5, _)]) rfl ?_
                    refine ih bs' (n + 1) (mt ++ hmet) g2 (by omega) (by omega) (fun q hq => h2 q (by simp [hq])) (by rw [k4]; exact h4.pre) k1 k2 (by omega) (by rw [← h8]; simp) (List.nodup_append.mp h9).1 (fun q hq => h10 q (by simp [hq])) k3 k5
                  · rw [b2i_0] at h15
                    exact absurd e3 h15
                | branch s x y =>
                  have e : bst (rkT (γ 0)) S1 (tl x ++ tl y) = (jv : Int) := hve.symm
                  obtain ⟨xa, xb, na, nb, e1, e2, e3, e4, e5, e6, e7, e8⟩ := hq
                  have hs16 : ((s / 16 : Nat) : Int) = γ 0 9 x1 := by omega
                  obtain ⟨S2, hS2⟩ : ∃ S2, S2 = wo S1 (jv : Int) := ⟨_, rfl⟩
                  have hlk : lk (rkT (γ 0)) (γ 0 2) a b u (.branch s x y) S1 = (1 + (if a ≤ γ 0 9 x1 then (lk (rkT (γ 0)) (γ 0 2) a b u x S2).1 else 0) + (if γ 0 9 x1 ≤ b then (lk (rkT (γ 0)) (γ 0 2) a b u y S2).1 else 0), hmet ++ ((if a ≤ γ 0 9 x1 then (lk (rkT (γ 0)) (γ 0 2) a b u x S2).2 else []) ++ (if γ 0 9 x1 ≤ b then (lk (rkT (γ 0)) (γ 0 2) a b u y S2).2 else []))) := by
                    simp only [lk]
                    rw [e, Int.toNat_natCast, if_neg (by omega), ← hmt, hs16, ← hS2]
                  rw [hlk] at h7 h8
                  have hxa := e5.lt
                  have hxb := e6.lt
                  have hsp : na.map (g0 0 16) = hl (rkT (γ 0)) x S2 ∧ nb.map (g0 0 16) = hl (rkT (γ 0)) y S2 := by
                    rw [e1] at hqh
                    simp only [hl] at hqh
                    rw [e, ← hS2, List.map_cons, List.map_append] at hqh
                    have := (List.cons.inj hqh).2
                    exact List.append_inj this (by rw [List.length_map, hl_len, e5.len])
                  have hb2 : bs'.length + 2 ≤ 12 := by
                    have a1 := flat_len (fun q : SQ => q.1) bs'
                    have a2 := nd_len 12 _ h9 (fun z hz => by
                      rcases List.mem_append.mp hz with hz | hz
                      · obtain ⟨q, q1, q2⟩ := List.mem_flatMap.mp hz
                        exact (hJ z (h10 q (by simp [q1]) z q2)).1
                      · exact (hJ z (hqt z hz)).1)
                    have a3 := tl_pos x
                    have a4 := tl_pos y
                    simp only [List.length_append, tl] at a2
                    omega
                  have fin : ∀ (rb la : List SQ) (g3 : GG), (rb = [] ∧ ¬ γ 0 9 x1 ≤ b ∨ rb = [(y, xb, nb, S2)] ∧ γ 0 9 x1 ≤ b) → (la = [] ∧ ¬ a ≤ γ 0 9 x1 ∨ la = [(x, xa, na, S2)] ∧ a ≤ γ 0 9 x1) → HL (g3 0 18) ((bs' ++ rb ++ la).map fun q => (q.2.1 : Int)) → HL (g3 0 24) (mt ++ hmet) → g3 0 25 0 = ((mt ++ hmet).length : Int) → g3 0 16 = g0 0 16 → Off0 [12, 13, 16, 17, 18, 24, 25] γ g3 → Wg Φ 10 g3 0 0 26 [(0, .ref (Φ.E.ad 414)), (1, .int (iI a)), (2, .int (iI b)), (3, .int (iI u)), (4, .int (iI ((n + 1 : Nat) : Int))), (5, .int (iI ((bs' ++ rb ++ la).length : Int)))] [] := by
                    intro rb la g3 hrb hla j1 j2 j3 j4 j5
                    have hmr : ∀ q ∈ rb, q = (y, xb, nb, S2) := fun q hq => by
                      rcases hrb with ⟨z, _⟩ | ⟨z, _⟩ <;> rw [z] at hq <;> simpa using hq
                    have hml : ∀ q ∈ la, q = (x, xa, na, S2) := fun q hq => by
                      rcases hla with ⟨z, _⟩ | ⟨z, _⟩ <;> rw [z] at hq <;> simpa using hq
                    have hsr : (rb.map fun q => nn q.1).sum ≤ nn y ∧ (rb.map fun q => (lk (rkT (γ 0)) (γ 0 2) a b u q.1 q.2.2.2).1).sum = (if γ 0 9 x1 ≤ b then (lk (rkT (γ 0)) (γ 0 2) a b u y S2).1 else 0) ∧ (rb.flatMap fun q => (lk (rkT (γ 0)) (γ 0 2) a b u q.1 q.2.2.2).2) = (if γ 0 9 x1 ≤ b then (lk (rkT (γ 0)) (γ 0 2) a b u y S2).2 else []) ∧ rb.reverse = rb ∧ List.Sublist (rb.flatMap fun q => tl q.1) (tl y) := by
                      rcases hrb with ⟨z, z2⟩ | ⟨z, z2⟩
                      · rw [z, if_neg z2, if_neg z2]; simp
                      · rw [z, if_pos z2, if_pos z2]; simp
                    have hsl : (la.map fun q => nn q.1).sum ≤ nn x ∧ (la.map fun q => (lk (rkT (γ 0)) (γ 0 2) a b u q.1 q.2.2.2).1).sum = (if a ≤ γ 0 9 x1 then (lk (rkT (γ 0)) (γ 0 2) a b u x S2).1 else 0) ∧ (la.flatMap fun q => (lk (rkT (γ 0)) (γ 0 2) a b u q.1 q.2.2.2).2) = (if a ≤ γ 0 9 x1 then (lk (rkT (γ 0)) (γ 0 2) a b u x S2).2 else []) ∧ la.reverse = la ∧ List.Sublist (la.flatMap fun q => tl q.1) (tl x) := by
                      rcases hla with ⟨z, z2⟩ | ⟨z, z2⟩
                      · rw [z, if_neg z2, if_neg z2]; simp
                      · rw [z, if_pos z2, if_pos z2]; simp
                    obtain ⟨r1, r2, r3, r4, r5⟩ := hsr
                    obtain ⟨l1, l2, l3, l4, l5⟩ := hsl
                    rw [← r2, ← r3, ← l2, ← l3] at h7
                    rw [← r3, ← l3] at h8
                    simp only [nn] at h1 hn
                    refine ih (bs' ++ rb ++ la) (n + 1) (mt ++ hmet) g3 ?_ ?_ ?_ j1 j2 j3 ?_ ?_ ?_ ?_ j4 j5
                    · rw [List.map_append, List.map_append, List.sum_append, List.sum_append]; omega
                    · rw [List.map_append, List.map_append, List.sum_append, List.sum_append]; omega
                    · intro q hq
                      rcases List.mem_append.mp hq with hq | hq
                      · rcases List.mem_append.mp hq with hq | hq
                        · exact h2 q (by simp [hq])
                        · rw [hmr q hq]; exact ⟨e6, hsp.2⟩
                      · rw [hml q hq]; exact ⟨e5, hsp.1⟩
                    · rw [List.map_append, List.map_append, List.sum_append, List.sum_append]; omega
                    · rw [← h8]
                      simp only [List.reverse_append, List.flatMap_append, r4, l4, List.append_assoc]
                    · simp only [List.flatMap_append, List.append_assoc]
                      refine List.Nodup.sublist (List.Sublist.append (List.Sublist.refl _) (List.Sublist.append r5 l5)) ?_
                      refine (List.Perm.nodup_iff ?_).mp h9
                      rw [List.perm_iff_count]
                      intro z
                      simp [tl]
                      omega
                    · intro q hq
                      rcases List.mem_append.mp hq with hq | hq
                      · rcases List.mem_append.mp hq with hq | hq
                        · exact h10 q (by simp [hq])
                        · rw [hmr q hq]; exact fun j hj => hqt j (List.mem_append_right _ hj)
                      · rw [hml q hq]; exact fun j hj => hqt j (List.mem_append_left _ hj)
                  have lft : ∀ (rb : List SQ) (g3 : GG) (f8 : Int), (rb = [] ∧ ¬ γ 0 9 x1 ≤ b ∨ rb = [(y, xb, nb, S2)] ∧ γ 0 9 x1 ≤ b) → (f8 = 0 ∧ ¬ a ≤ γ 0 9 x1 ∨ f8 = 1 ∧ a ≤ γ 0 9 x1) → HL (g3 0 18) ((bs' ++ rb).map fun q => (q.2.1 : Int)) → HL (g3 0 24) (mt ++ hmet) → g3 0 25 0 = ((mt ++ hmet).length : Int) → g3 0 16 = g0 0 16 → Off0 [12, 13, 16, 17, 18, 24, 25] γ g3 → Wg Φ 10 g3 0 0 178 [(0, .ref (Φ.E.ad 414)), (1, .int (iI a)), (2, .int (iI b)), (3, .int (iI u)), (4, .int (iI ((n + 1 : Nat) : Int))), (5, .int (iI ((bs' ++ rb).length : Int))), (6, .int (iI (x1 : Int))), (7, .int (iI (jv : Int))), (8, .int (iI f8))] [] := by
                    intro rb g3 f8 hrb hf8 j1 j2 j3 j4 j5
                    have hrl : rb.length ≤ 1 := by rcases hrb with ⟨z, _⟩ | ⟨z, _⟩ <;> rw [z] <;> simp
                    have hbr : (bs' ++ rb).length ≤ 11 := by rw [List.length_append]; omega
                    have hf8r : 0 ≤ f8 ∧ f8 ≤ 1 := by omega
                    refine w_iload F dX8_looksAt_178 rfl ?_
                    refine w_if_eq F (tgt := 200) dX8_looksAt_180 (by decide) (by first | assumption | exact inR0 | exact (hR _ _ _).1 | (constructor <;> omega)) (fun h16 => ?_) (fun h16 => ?_)
                    · refine w_goto F (tgt := 26) dX8_looksAt_200 (by decide) ?_
                      refine w_keep [0, 1, 2, 3, 4, 5] (lv' := [(0, _), (1, _), (2, _), (3, _), (4, _), (5, _)]) rfl ?_
                      have := fin rb [] g3 hrb (by rcases hf8 with z | z; exact Or.inl ⟨rfl, z.2⟩; omega) (by simpa using j1) j2 j3 j4 j5
                      simpa using this
                    · refine w_aload_n F dX8_looksAt_183 rfl rfl ?_
                      refine w_get F (by omega) cell_mdO rfl in_X8 18 (by decide) (Or.inl q890) rfl dX8_looksAt_184 ?_
                      refine w_iload F dX8_looksAt_187 rfl ?_
                      refine w_aload_n F dX8_looksAt_189 rfl rfl ?_
                      refine w_get F (by omega) cell_mdO rfl in_X8 6 (by decide) (Or.inl q878) rfl dX8_looksAt_190 ?_
                      refine w_iload F dX8_looksAt_193 rfl ?_
                      first | refine w_ialdN F (aM6 _) (by omega) (by decide) (by omega) dX8_looksAt_195 ?_ | refine w_iald F (aM6 _) (by omega) (by decide) (by omega) (by omega) dX8_looksAt_195 ?_
                      refine w_top (z' := (xa : Int)) (by rw [j5.f 6 rfl]; exact e3) ?_
                      first | refine w_iastN F (aM18 _) (by omega) (by decide) rfl rfl (by first | assumption | exact inR0 | exact (hR _ _ _).1 | (constructor <;> omega)) (by omega) dX8_looksAt_196 ?_ | refine w_iast F (aM18 _) (by omega) (by decide) rfl rfl (by first | assumption | exact inR0 | exact (hR _ _ _).1 | (constructor <;> omega)) (by omega) (by omega) dX8_looksAt_196 ?_
                      refine w_iinc F dX8_looksAt_197 rfl (by decide) rfl (lv' := [(0, _), (1, _), (2, _), (3, _), (4, _), (5, _), (6, _), (7, _), (8, _)]) rfl ?_
                      refine w_goto F (tgt := 26) dX8_looksAt_200 (by decide) ?_
                      refine w_keep [0, 1, 2, 3, 4, 5] (lv' := [(0, _), (1, _), (2, _), (3, _), (4, _), (5, _)]) rfl ?_
                      have := fin rb [(x, xa, na, S2)] (gu g3 0 18 (bs' ++ rb).length (xa : Int)) hrb (by rcases hf8 with z | z; omega; exact Or.inr ⟨rfl, z.2⟩) (by rw [List.map_append]; exact j1.sn (by simp)) (j2.ot (by decide)) (by rw [gu_f (by decide)]; exact j3) (by rw [gu_f (by decide)]; exact j4) (j5.up (by decide))
                      rw [show ((bs' ++ rb ++ [(x, xa, na, S2)]).length : Int) = ((bs' ++ rb).length : Int) + 1 by rw [List.length_append (as := bs' ++ rb)]; rfl] at this
                      exact this
                  have rgt : ∀ (f8 f9 : Int), (f8 = 0 ∧ ¬ a ≤ γ 0 9 x1 ∨ f8 = 1 ∧ a ≤ γ 0 9 x1) → (f9 = 0 ∧ ¬ γ 0 9 x1 ≤ b ∨ f9 = 1 ∧ γ 0 9 x1 ≤ b) → Wg Φ 10 g2 0 0 156 [(0, .ref (Φ.E.ad 414)), (1, .int (iI a)), (2, .int (iI b)), (3, .int (iI u)), (4, .int (iI ((n + 1 : Nat) : Int))), (5, .int (iI (bs'.length : Int))), (6, .int (iI (x1 : Int))), (7, .int (iI (jv : Int))), (8, .int (iI f8)), (9, .int (iI f9))] [] := by
                    intro f8 f9 hf8 hf9
                    have hf9r : 0 ≤ f9 ∧ f9 ≤ 1 := by omega
                    refine w_iload F dX8_looksAt_156 rfl ?_
                    refine w_if_eq F (tgt := 178) dX8_looksAt_158 (by decide) (by first | assumption | exact inR0 | exact (hR _ _ _).1 | (constructor <;> omega)) (fun h16 => ?_) (fun h16 => ?_)
                    · refine w_keep [0, 1, 2, 3, 4, 5, 6, 7, 8] (lv' := [(0, _), (1, _), (2, _), (3, _), (4, _), (5, _), (6, _), (7, _), (8, _)]) rfl ?_
                      have := lft [] g2 f8 (by rcases hf9 with z | z; exact Or.inl ⟨rfl, z.2⟩; omega) hf8 (by rw [k4]; simpa using h4.pre) k1 k2 k3 k5
                      simpa using this
                    · refine w_aload_n F dX8_looksAt_161 rfl rfl ?_
                      refine w_get F (by omega) cell_mdO rfl in_X8 18 (by decide) (Or.inl q890) rfl dX8_looksAt_162 ?_
                      refine w_iload F dX8_looksAt_165 rfl ?_
                      refine w_aload_n F dX8_looksAt_167 rfl rfl ?_
                      refine w_get F (by omega) cell_mdO rfl in_X8 7 (by decide) (Or.inl q879) rfl dX8_looksAt_168 ?_
                      refine w_iload F dX8_looksAt_171 rfl ?_
                      first | refine w_ialdN F (aM7 _) (by omega) (by decide) (by omega) dX8_looksAt_173 ?_ | refine w_iald F (aM7 _) (by omega) (by decide) (by omega) (by omega) dX8_looksAt_173 ?_
                      refine w_top (z' := (xb : Int)) (by rw [k5.f 7 rfl]; exact e4) ?_
                      first | refine w_iastN F (aM18 _) (by omega) (by decide) rfl rfl (by first | assumption | exact inR0 | exact (hR _ _ _).1 | (constructor <;> omega)) (by omega) dX8_looksAt_174 ?_ | refine w_iast F (aM18 _) (by omega) (by decide) rfl rfl (by first | assumption | exact inR0 | exact (hR _ _ _).1 | (constructor <;> omega)) (by omega) (by omega) dX8_looksAt_174 ?_
                      refine w_iinc F dX8_looksAt_175 rfl (by decide) rfl (lv' := [(0, _), (1, _), (2, _), (3, _), (4, _), (5, _), (6, _), (7, _), (8, _), (9, _)]) rfl ?_
                      refine w_keep [0, 1, 2, 3, 4, 5, 6, 7, 8] (lv' := [(0, _), (1, _), (2, _), (3, _), (4, _), (5, _), (6, _), (7, _), (8, _)]) rfl ?_
                      have := lft [(y, xb, nb, S2)] (gu g2 0 18 bs'.length (xb : Int)) f8 (by rcases hf9 with z | z; omega; exact Or.inr ⟨rfl, z.2⟩) hf8 (by rw [List.map_append]; exact HL.sn (by rw [k4]; exact h4.pre) (by simp)) (k1.ot (by decide)) (by rw [gu_f (by decide)]; exact k2) (by rw [gu_f (by decide)]; exact k3) (k5.up (by decide))
                      rw [show ((bs' ++ [(y, xb, nb, S2)]).length : Int) = (bs'.length : Int) + 1 by rw [List.length_append]; rfl] at this
                      exact this
                  have h9r : InR (γ 0 9 x1) := by omega
                  refine w_if_ne F (tgt := 200) dX8_looksAt_117 (by decide) (b2i_R _) (fun h15 => ?_) (fun h15 => ?_)
                  · rw [b2i_n0] at h15
                    omega
                  · refine w_aload_n F dX8_looksAt_120 rfl rfl ?_
                    refine w_get F (by omega) cell_mdO rfl in_X8 9 (by decide) (Or.inl q881) rfl dX8_looksAt_121 ?_
                    refine w_iload F dX8_looksAt_124 rfl ?_
                    first | refine w_ialdN F (aM9 _) (by omega) (by decide) (by omega) dX8_looksAt_126 ?_ | refine w_iald F (aM9 _) (by omega) (by decide) (by omega) (by omega) dX8_looksAt_126 ?_
                    refine w_top (z' := γ 0 9 x1) (by rw [k5.f 9 rfl]) ?_
                    refine w_iload_n F dX8_looksAt_127 rfl ?_
                    refine w_icmp_lt F (tgt := 135) dX8_looksAt_128 (by decide) (by first | assumption | exact inR0 | exact (hR _ _ _).1 | (constructor <;> omega)) (by first | assumption | exact inR0 | exact (hR _ _ _).1 | (constructor <;> omega)) (fun h16 => ?_) (fun h16 => ?_)
                    · refine w_iconst F dX8_looksAt_135 ?_
                      refine w_istore F dX8_looksAt_136 (by decide) rfl (lv' := [(0, _), (1, _), (2, _), (3, _), (4, _), (5, _), (6, _), (7, _), (8, _)]) rfl ?_
                      refine w_aload_n F dX8_looksAt_138 rfl rfl ?_
                      refine w_get F (by omega) cell_mdO rfl in_X8 9 (by decide) (Or.inl q881) rfl dX8_looksAt_139 ?_
                      refine w_iload F dX8_looksAt_142 rfl ?_
                      first | refine w_ialdN F (aM9 _) (by omega) (by decide) (by omega) dX8_looksAt_144 ?_ | refine w_iald F (aM9 _) (by omega) (by decide) (by omega) (by omega) dX8_looksAt_144 ?_
                      refine w_top (z' := γ 0 9 x1) (by rw [k5.f 9 rfl]) ?_
                      refine w_iload_n F dX8_looksAt_145 rfl ?_
                      refine w_icmp_gt F (tgt := 153) dX8_looksAt_146 (by decide) (by first | assumption | exact inR0 | exact (hR _ _ _).1 | (constructor <;> omega)) (by first | assumption | exact inR0 | exact (hR _ _ _).1 | (constructor <;> omega)) (fun h17 => ?_) (fun h17 => ?_)
                      · refine w_iconst F dX8_looksAt_153 ?_
                        refine w_istore F dX8_looksAt_154 (by decide) rfl (lv' := [(0, _), (1, _), (2, _), (3, _), (4, _), (5, _), (6, _), (7, _), (8, _), (9, _)]) rfl ?_
                        exact rgt 0 0 (Or.inl ⟨rfl, by omega⟩) (Or.inl ⟨rfl, by omega⟩)
                      · refine w_iconst F dX8_looksAt_149 ?_
                        refine w_goto F (tgt := 154) dX8_looksAt_150 (by decide) ?_
                        refine w_istore F dX8_looksAt_154 (by decide) rfl (lv' := [(0, _), (1, _), (2, _), (3, _), (4, _), (5, _), (6, _), (7, _), (8, _), (9, _)]) rfl ?_
                        exact rgt 0 1 (Or.inl ⟨rfl, by omega⟩) (Or.inr ⟨rfl, by omega⟩)
                    · refine w_iconst F dX8_looksAt_131 ?_
                      refine w_goto F (tgt := 136) dX8_looksAt_132 (by decide) ?_
                      refine w_istore F dX8_looksAt_136 (by decide) rfl (lv' := [(0, _), (1, _), (2, _), (3, _), (4, _), (5, _), (6, _), (7, _), (8, _)]) rfl ?_
                      refine w_aload_n F dX8_looksAt_138 rfl rfl ?_
                      refine w_get F (by omega) cell_mdO rfl in_X8 9 (by decide) (Or.inl q881) rfl dX8_looksAt_139 ?_
                      refine w_iload F dX8_looksAt_142 rfl ?_
                      first | refine w_ialdN F (aM9 _) (by omega) (by decide) (by omega) dX8_looksAt_144 ?_ | refine w_iald F (aM9 _) (by omega) (by decide) (by omega) (by omega) dX8_looksAt_144 ?_
                      refine w_top (z' := γ 0 9 x1) (by rw [k5.f 9 rfl]) ?_
                      refine w_iload_n F dX8_looksAt_145 rfl ?_
                      refine w_icmp_gt F (tgt := 153) dX8_looksAt_146 (by decide) (by first | assumption | exact inR0 | exact (hR _ _ _).1 | (constructor <;> omega)) (by first | assumption | exact inR0 | exact (hR _ _ _).1 | (constructor <;> omega)) (fun h17 => ?_) (fun h17 => ?_)
                      · refine w_iconst F dX8_looksAt_153 ?_
                        refine w_istore F dX8_looksAt_154 (by decide) rfl (lv' := [(0, _), (1, _), (2, _), (3, _), (4, _), (5, _), (6, _), (7, _), (8, _), (9, _)]) rfl ?_
                        exact rgt 1 0 (Or.inr ⟨rfl, by omega⟩) (Or.inl ⟨rfl, by omega⟩)
                      · refine w_iconst F dX8_looksAt_149 ?_
                        refine w_goto F (tgt := 154) dX8_looksAt_150 (by decide) ?_
                        refine w_istore F dX8_looksAt_154 (by decide) rfl (lv' := [(0, _), (1, _), (2, _), (3, _), (4, _), (5, _), (6, _), (7, _), (8, _), (9, _)]) rfl ?_
                        exact rgt 1 1 (Or.inr ⟨rfl, by omega⟩) (Or.inr ⟨rfl, by omega⟩)
              have hst : InR (γ 0 2 jv) := by rw [← h12.f 2 rfl]; exact (hR _ _ _).1
              have hjv12 := jr.1
              refine w_aload_n F dX8_looksAt_75 rfl rfl ?_
              refine w_get F (by omega) cell_mdO rfl in_X8 2 (by decide) (Or.inl q874) rfl dX8_looksAt_76 ?_
              refine w_iload F dX8_looksAt_79 rfl ?_
              first | refine w_ialdN F (aM2 _) (by omega) (by decide) (by omega) dX8_looksAt_81 ?_ | refine w_iald F (aM2 _) (by omega) (by decide) (by omega) (by omega) dX8_looksAt_81 ?_
              refine w_top (z' := γ 0 2 jv) (by rw [h12.f 2 rfl]) ?_
              refine w_iload_n F dX8_looksAt_82 rfl ?_
              refine w_iload_n F dX8_looksAt_83 rfl ?_
              refine w_callS F (As := [_, _, _]) (ct_in hE g hst ha hb) (lw_S q980 q981 q88 q982) md_X8_in rfl rfl (Nat.le_of_ble_eq_true rfl) dX8_looksAt_84 ⟨by omega, by omega⟩ ⟨by omega, by omega⟩ ?_
              rintro _ _ ⟨rfl, rfl⟩
              refine w_if_eq F (tgt := 111) dX8_looksAt_87 (by decide) (b2i_R _) (fun h15 => ?_) (fun h15 => ?_)
              · rw [b2i_0] at h15
                rw [if_neg h15] at hmt
                exact hcom g (by rw [hmt]; simpa using h5) (by rw [hmt]; simpa using h6) h11 rfl h12
              · rw [b2i_n0] at h15
                rw [if_pos h15] at hmt
                have hbd2 : mt.length < 12 := by rw [hmt] at hbd; simp at hbd; omega
                refine w_aload_n F dX8_looksAt_90 rfl rfl ?_
                refine w_get F (by omega) cell_mdO rfl in_X8 24 (by decide) (Or.inl q896) rfl dX8_looksAt_91 ?_
                refine w_aload_n F dX8_looksAt_94 rfl rfl ?_
                refine w_getF F (fM25 _) (by omega) rfl in_X8 (by decide) (Or.inl q897) dX8_looksAt_95 ?_
                refine w_top h6 ?_
                refine w_iload F dX8_looksAt_98 rfl ?_
                first | refine w_iastN F (aM24 _) (by omega) (by decide) rfl rfl (by first | assumption | exact inR0 | exact (hR _ _ _).1 | (constructor <;> omega)) (by omega) dX8_looksAt_100 ?_ | refine w_iast F (aM24 _) (by omega) (by decide) rfl rfl (by first | assumption | exact inR0 | exact (hR _ _ _).1 | (constructor <;> omega)) (by omega) (by omega) dX8_looksAt_100 ?_
                refine w_aload_n F dX8_looksAt_101 rfl rfl ?_
                refine w_dup F dX8_looksAt_102 rfl ?_
                refine w_getF F (fM25 _) (by omega) rfl in_X8 (by decide) (Or.inl q897) dX8_looksAt_103 ?_
                refine w_top (z' := (mt.length : Int)) (by rw [gu_f (by decide)]; exact h6) ?_
                refine w_iconst F dX8_looksAt_106 ?_
                refine w_iadd F dX8_looksAt_107 ?_
                refine w_putF F (fM25 _) (by omega) rfl in_X8 tyX8 tyX8_ok nmX8 (by decide) (Or.inl q897) rfl rfl rfl (by first | assumption | exact inR0 | exact (hR _ _ _).1 | (constructor <;> omega)) (fun h => by cases h) (fun h => by cases h) dX8_looksAt_108 ?_
                refine hcom _ ?_ ?_ ?_ ?_ ((h12.up (by decide)).up (by decide))
                · rw [hmt]
                  exact (h5.sn rfl).ot (by decide)
                · rw [gu_s, hmt]; simp
                · rw [gu_f (by decide), gu_f (by decide)]; exact h11
                · rw [gu_f (by decide), gu_f (by decide)]
            · refine w_goto F (tgt := 26) dX8_looksAt_72 (by decide) ?_
              refine w_keep [0, 1, 2, 3, 4, 5] (lv' := [(0, _), (1, _), (2, _), (3, _), (4, _), (5, _)]) rfl ?_
              refine hcut ?_
              cases t1 with
              | leaf j => simp only [lk]; rw [if_pos (Or.inr (by rw [show bst (rkT (γ 0)) S1 [j] = (jv : Int) from hve.symm, Int.toNat_natCast]; omega))]
              | branch s x y => simp only [lk]; rw [if_pos (Or.inr (by rw [show bst (rkT (γ 0)) S1 (tl x ++ tl y) = (jv : Int) from hve.symm, Int.toNat_natCast]; omega))]
  refine loop (nn t + 1) [(t, r, ns, fun _ => true)] 0 [] _ (by simp) ?_ (by simpa using ⟨hr, h16⟩) (HL.sn (L := []) (HL.nil _) rfl) (HL.nil _) ?_ (by rw [htg]; simp) (by rw [htg]; simp) (by simpa using htn) (by simp) ?_ (((o1.mono (by decide)).up (by decide)).up (by decide))
  · have h1 := nn_tl t
    have h3 := nd_len 12 _ htn (fun z hz => (hJ z hz).1)
    simp
    omega
  · rw [gu_f (by decide), gu_s]; rfl
  · rw [gu_f (by decide), gu_f (by decide)]
theorem ct_foundM (hE : EOk E) (hm : 438 ≤ E.nk) (γ : GG) {v : VV} (hM : MV (γ 0) v.1 v.2.1 v.2.2) (hV : VOk v) {a b u w : Int} (ha : InR a) (hb : InR b) (hu : InR u) (hw : InR w) : Ct l yX8_found cX8_found 6 (some .int) E 700 40000 [.ref (E.ad 414), .int (iI a), .int (iI b), .int (iI u), .int (iI w)] γ (fun r g => Off0 [12, 13, 16, 17, 18, 24, 25] γ g ∧ ((¬ okF a b u w ∧ r = some (.int (iI (-1)))) ∨ (okF a b u w ∧ r = some (.int (iI (qFound v a b u w)))))) 0 0 := by
  refine Ct.of hE (by decide) (Nat.le_of_ble_eq_true rfl) (fun Φ hLn hΦ F hfr hlo => ?_)
  subst hLn; subst hΦ
  have h414 := F.ok.1.2.2
  have hrc := F.rc
  have hrs := F.rs
  show Wg Φ 6 _ 0 0 0 [(0, _), (1, _), (2, _), (3, _), (4, _)] []
  refine w_rng (fun hR => ?_)
  obtain ⟨r, ns, g1, g2, g3, g4, g5, g6⟩ := hM.get hV
  have hnl : ((qLk v a b u).2.length : Int) ≤ 12 := by
    have h1 := lk_len (R := rkT v.2.1) (st := v.2.1 2) (a := a) (b := b) (u := u) v.2.2 (fun _ => true)
    have h2 := List.countP_le_length (p := fun _ : Nat => true) (l := tl v.2.2)
    unfold qLk
    omega
  refine w_iload_n F dX8_found_0 rfl ?_
  refine w_iload_n F dX8_found_1 rfl ?_
  refine w_callS F (As := [_, _]) (ct_isBetween hE γ ha hb) (lw_S q1082 q1083 q88 q1084) md_X8_isBetween rfl rfl (Nat.le_of_ble_eq_true rfl) dX8_found_2 ⟨by omega, by omega⟩ ⟨by omega, by omega⟩ ?_
  rintro _ _ ⟨rfl, rfl⟩
  refine w_if_eq F (tgt := 26) dX8_found_5 (by decide) (b2i_R _) (fun h => ?_) (fun h => ?_)
  · rw [b2i_0] at h
    refine w_iconst F dX8_found_26 ?_
    exact w_iret F (by omega) (by omega) (⟨Off0.rf, Or.inl ⟨fun q => h q.1, rfl⟩⟩) dX8_found_27
  · rw [b2i_n0] at h
    refine w_iload_n F dX8_found_8 rfl ?_
    refine w_iconst F dX8_found_9 ?_
    refine w_sipush F dX8_found_10 rfl ?_
    refine w_callS F (As := [_, _, _]) (ct_in hE γ hu inR0 (by decide)) (lw_S q980 q981 q88 q982) md_X8_in rfl rfl (Nat.le_of_ble_eq_true rfl) dX8_found_13 ⟨by omega, by omega⟩ ⟨by omega, by omega⟩ ?_
    rintro _ _ ⟨rfl, rfl⟩
    refine w_if_eq F (tgt := 26) dX8_found_16 (by decide) (b2i_R _) (fun h2 => ?_) (fun h2 => ?_)
    · rw [b2i_0] at h2
      refine w_iconst F dX8_found_26 ?_
      exact w_iret F (by omega) (by omega) (⟨Off0.rf, Or.inl ⟨fun q => h2 q.2.1, rfl⟩⟩) dX8_found_27
    · rw [b2i_n0] at h2
      refine w_iload F dX8_found_19 rfl ?_
      refine w_bipush F dX8_found_21 rfl ?_
      refine w_icmp_ge F (tgt := 28) dX8_found_23 (by decide) (by first | assumption | exact inR0 | exact (hR _ _ _).1 | (constructor <;> omega)) (by first | assumption | exact inR0 | exact (hR _ _ _).1 | (constructor <;> omega)) (fun h3 => ?_) (fun h3 => ?_)
      · refine w_aload_n F dX8_found_28 rfl rfl ?_
        refine w_iload_n F dX8_found_29 rfl ?_
        refine w_iload_n F dX8_found_30 rfl ?_
        refine w_iload_n F dX8_found_31 rfl ?_
        refine w_callV F (As := [_, _, _]) (ct_looksAt hE hm γ g1 g2 g3.1 hV.2.1.2 g4 ha hb hu) (lw_V q1085 q1087 qs61 q88 q1088) md_X8_looksAt (by omega) cell_mdO rfl rfl rfl rfl (Nat.le_of_ble_eq_true rfl) dX8_found_32 ⟨by omega, by omega⟩ ⟨by omega, by omega⟩ ?_
        rintro _ g ⟨rfl, k1, k2, o⟩
        have hlk : lk (rkT (γ 0)) (γ 0 2) a b u v.2.2 (fun _ => true) = qLk v a b u := lk_cg _ _ g5 (fun j hj => (hM.jr hV ((hV.2.1.1 j).mp hj)).2.2.1)
        rw [hlk] at k1 k2 ⊢
        refine w_istore F dX8_found_35 (by decide) rfl (lv' := [(0, _), (1, _), (2, _), (3, _), (4, _), (5, _)]) rfl ?_
        refine w_iload F dX8_found_37 rfl ?_
        refine w_if_ge F (tgt := 58) dX8_found_39 (by decide) (by first | assumption | exact inR0 | exact (hR _ _ _).1 | (constructor <;> omega)) (fun h4 => ?_) (fun h4 => ?_)
        · refine w_iload F dX8_found_58 rfl ?_
          refine w_aload_n F dX8_found_60 rfl rfl ?_
          refine w_getF F (fM25 _) (by omega) rfl in_X8 (by decide) (Or.inl q897) dX8_found_61 ?_
          refine w_top k2 ?_
          refine w_icmp_ge F (tgt := 77) dX8_found_64 (by decide) (by first | assumption | exact inR0 | exact (hR _ _ _).1 | (constructor <;> omega)) (by first | assumption | exact inR0 | exact (hR _ _ _).1 | (constructor <;> omega)) (fun h5 => ?_) (fun h5 => ?_)
          · refine w_bipush F dX8_found_77 rfl ?_
            exact w_iret F (by omega) (by omega) (⟨o, Or.inr ⟨⟨h, h2, h3⟩, by unfold qFound; rw [if_neg (by omega), if_neg (by omega)]⟩⟩) dX8_found_79
          · obtain ⟨i, rfl⟩ : ∃ i : Nat, w = (i : Int) := ⟨w.toNat, by omega⟩
            have hil : i < (qLk v a b u).2.length := by omega
            refine w_aload_n F dX8_found_67 rfl rfl ?_
            refine w_get F (by omega) cell_mdO rfl in_X8 24 (by decide) (Or.inl q896) rfl dX8_found_68 ?_
            refine w_iload F dX8_found_71 rfl ?_
            first | refine w_ialdN F (aM24 _) (by omega) (by decide) (by omega) dX8_found_73 ?_ | refine w_iald F (aM24 _) (by omega) (by decide) (by omega) (by omega) dX8_found_73 ?_
            refine w_top (z' := (qLk v a b u).2.getD i 0) (k1 i _ (by rw [List.getD_eq_getElem?_getD, List.getElem?_eq_getElem hil]; rfl)) ?_
            refine w_goto F (tgt := 79) dX8_found_74 (by decide) ?_
            exact w_iret F (by omega) (by omega) (⟨o, Or.inr ⟨⟨h, h2, h3⟩, by unfold qFound; rw [if_neg (by omega), if_pos (by omega), Int.toNat_natCast]⟩⟩) dX8_found_79
        · refine w_iload F dX8_found_42 rfl ?_
          refine w_iconst F dX8_found_44 ?_
          refine w_icmp_ne F (tgt := 55) dX8_found_45 (by decide) (by first | assumption | exact inR0 | exact (hR _ _ _).1 | (constructor <;> omega)) (by first | assumption | exact inR0 | exact (hR _ _ _).1 | (constructor <;> omega)) (fun h5 => ?_) (fun h5 => ?_)
          · refine w_iload F dX8_found_55 rfl ?_
            exact w_iret F (by omega) (by omega) (⟨o, Or.inr ⟨⟨h, h2, h3⟩, by unfold qFound; rw [if_pos (by omega), if_neg (by omega)]⟩⟩) dX8_found_57
          · refine w_aload_n F dX8_found_48 rfl rfl ?_
            refine w_getF F (fM25 _) (by omega) rfl in_X8 (by decide) (Or.inl q897) dX8_found_49 ?_
            refine w_top k2 ?_
            refine w_goto F (tgt := 57) dX8_found_52 (by decide) ?_
            exact w_iret F (by omega) (by omega) (⟨o, Or.inr ⟨⟨h, h2, h3⟩, by unfold qFound; rw [if_pos (by omega), if_pos (by omega)]⟩⟩) dX8_found_57
      · refine w_iconst F dX8_found_26 ?_
        exact w_iret F (by omega) (by omega) (⟨Off0.rf, Or.inl ⟨fun q => by have := q.2.2; omega, rfl⟩⟩) dX8_found_27
end M24
