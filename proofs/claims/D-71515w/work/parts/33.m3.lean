/-! the model: leaves in a row -/
/-- a row begins with these numbers -/
def HL (a : Nat → Int) (L : List Int) : Prop := ∀ i v, L[i]? = some v → a i = v
abbrev nzs (L : List Nat) : List Int := L.map (fun j : Nat => (j : Int))
theorem HL.nil (a : Nat → Int) : HL a [] := fun i v h => by simp at h
theorem HL.up {g : GG} {o f i : Nat} {z : Int} {L : List Int} (h : HL (g o f) L) (hi : L.length ≤ i) : HL (gu g o f i z o f) L := fun j v hj => by
  have := (List.getElem?_eq_some_iff.mp hj).1
  rw [gu_n (by omega)]
  exact h j v hj
theorem HL.sn {g : GG} {o f i : Nat} {z : Int} {L : List Int} (h : HL (g o f) L) (hi : i = L.length) : HL (gu g o f i z o f) (L ++ [z]) := fun j v hj => by
  subst hi
  by_cases e : j < L.length
  · rw [List.getElem?_append_left e] at hj
    exact h.up (Nat.le_refl _) j v hj
  · have e2 := (List.getElem?_eq_some_iff.mp hj).1
    simp at e2
    have e3 : j = L.length := by omega
    subst e3
    simp at hj
    rw [gu_s, hj]
theorem HL.ot {g : GG} {o f i f' : Nat} {z : Int} {L : List Int} (h : HL (g o f') L) (hf : f' ≠ f) : HL (gu g o f i z o f') L := by rw [gu_f hf]; exact h
theorem HL.pre {a : Nat → Int} {L M : List Int} (h : HL a (L ++ M)) : HL a L := fun i v hi => h i v (by
  have := (List.getElem?_eq_some_iff.mp hi).1
  rw [List.getElem?_append_left this]
  exact hi)
theorem HL.last {a : Nat → Int} {L : List Int} {z : Int} (h : HL a (L ++ [z])) : a L.length = z := h L.length z (by simp)
theorem flat_len {α : Type} (f : α → TT) : ∀ bs : List α, bs.length ≤ (bs.flatMap fun q => tl (f q)).length
  | [] => by simp
  | q :: bs => by
    have h1 := flat_len f bs
    have h2 := tl_pos (f q)
    simp only [List.flatMap_cons, List.length_append, List.length_cons]
    omega
theorem flat_lenR {α : Type} (f : α → TT) (bs : List α) : bs.length ≤ (bs.reverse.flatMap fun q => tl (f q)).length := by
  have := flat_len f bs.reverse
  simpa using this
theorem nn_pos (t : TT) : 0 < nn t := by
  have := nn_tl t
  have := tl_pos t
  omega
section M3
variable {l : Launch} {E : EE}
theorem ct_leaves (hE : EOk E) (hm : 438 ≤ E.nk) (γ : GG) {x : Nat} {t : TT} {ns : List Nat} (hr : RepM (γ 0) t x ns) (ht : (tl t).length ≤ 12) : Ct l yX8_leaves cX8_leaves 5 (some .int) E 200 20000 [.ref (E.ad 414), .int (iI (x : Int))] γ (fun v g => v = some (.int (iI ((tl t).length : Int))) ∧ HL (g 0 13) (nzs (tl t)) ∧ Off0 [12, 13] γ g) 0 0 := by
  refine Ct.of hE (by decide) (Nat.le_of_ble_eq_true rfl) (fun Φ hLn hΦ F hfr hlo => ?_)
  subst hLn; subst hΦ
  have h414 := F.ok.1.2.2
  have hrc := F.rc
  have hrs := F.rs
  show Wg Φ 5 _ 0 0 0 [(0, _), (1, _)] []
  refine w_rng (fun hR => ?_)
  have hx := hr.lt
  refine w_iconst F dX8_leaves_0 ?_
  refine w_istore_n F dX8_leaves_1 (by decide) rfl (lv' := [(0, _), (1, _), (2, _)]) rfl ?_
  refine w_iconst F dX8_leaves_2 ?_
  refine w_istore_n F dX8_leaves_3 (by decide) rfl (lv' := [(0, _), (1, _), (2, _), (3, _)]) rfl ?_
  refine w_aload_n F dX8_leaves_4 rfl rfl ?_
  refine w_get F (by omega) cell_mdO rfl in_X8 12 (by decide) (Or.inl q884) rfl dX8_leaves_5 ?_
  refine w_iconst F dX8_leaves_8 ?_
  refine w_iload_n F dX8_leaves_9 rfl ?_
  first | refine w_iastN F (aM12 _) (by omega) (by decide) rfl rfl (by first | assumption | exact inR0 | exact (hR _ _ _).1 | (constructor <;> omega)) (by omega) dX8_leaves_10 ?_ | refine w_iast F (aM12 _) (by omega) (by decide) rfl rfl (by first | assumption | exact inR0 | exact (hR _ _ _).1 | (constructor <;> omega)) (by omega) (by omega) dX8_leaves_10 ?_
  have loop : ∀ (m : Nat) (bs : List (TT × Nat × List Nat)) (dn : List Nat) (g : GG), (bs.map fun q => nn q.1).sum < m → (∀ q ∈ bs, RepM (γ 0) q.1 q.2.1 q.2.2) → HL (g 0 12) (bs.map fun q => (q.2.1 : Int)) → HL (g 0 13) (nzs dn) → Off0 [12, 13] γ g → dn ++ (bs.reverse.flatMap fun q => tl q.1) = tl t → Wg Φ 5 g 0 0 11 [(0, .ref (Φ.E.ad 414)), (1, .int (iI (x : Int))), (2, .int (iI (dn.length : Int))), (3, .int (iI (bs.length : Int)))] [] := by
    intro m
    induction m with
    | zero => intro bs dn g h1; omega
    | succ m ih =>
      intro bs dn g h1 h2 h3 h4 h5 h6
      have hlen : dn.length + bs.length ≤ 12 := by
        have a1 := flat_lenR (fun q : TT × Nat × List Nat => q.1) bs
        have a2 := congrArg List.length h6
        rw [List.length_append] at a2
        omega
      rcases List.eq_nil_or_concat bs with e | ⟨bs', ⟨t1, x1, n1⟩, e⟩
      · subst e
        simp at h6
        refine w_iload_n F dX8_leaves_11 rfl ?_
        refine w_if_le F (tgt := 88) dX8_leaves_12 (by decide) (by first | assumption | exact inR0 | exact (hR _ _ _).1 | (constructor <;> omega)) (fun h => ?_) (fun h => ?_)
        · refine w_iload_n F dX8_leaves_88 rfl ?_
          exact w_iret F (by omega) (by omega) (⟨by rw [h6], by rw [← h6]; exact h4, h5⟩) dX8_leaves_89
        · simp at h
      · subst e
        simp only [List.concat_eq_append, List.map_append, List.map_cons, List.map_nil, List.sum_append, List.sum_cons, List.sum_nil, List.length_append, List.length_cons, List.length_nil] at h1 h3 hlen ⊢
        have hq : RepM (γ 0) t1 x1 n1 := h2 (t1, x1, n1) (by simp)
        have hql := hq.lt
        have hlast := h3.last
        simp only [List.length_map] at hlast
        refine w_rng (fun hR => ?_)
        refine w_iload_n F dX8_leaves_11 rfl ?_
        refine w_if_le F (tgt := 88) dX8_leaves_12 (by decide) (by first | assumption | exact inR0 | exact (hR _ _ _).1 | (constructor <;> omega)) (fun h => ?_) (fun h => ?_)
        · omega
        · refine w_iinc F dX8_leaves_15 rfl (by decide) rfl (lv' := [(0, _), (1, _), (2, _), (3, _)]) rfl ?_
          rw [show ((bs'.length + (0 + 1) : Nat) : Int) + -1 = (bs'.length : Int) by omega]
          refine w_aload_n F dX8_leaves_18 rfl rfl ?_
          refine w_get F (by omega) cell_mdO rfl in_X8 12 (by decide) (Or.inl q884) rfl dX8_leaves_19 ?_
          refine w_iload_n F dX8_leaves_22 rfl ?_
          first | refine w_ialdN F (aM12 _) (by omega) (by decide) (by omega) dX8_leaves_23 ?_ | refine w_iald F (aM12 _) (by omega) (by decide) (by omega) (by omega) dX8_leaves_23 ?_
          refine w_top hlast ?_
          refine w_istore F dX8_leaves_24 (by decide) rfl (lv' := [(0, _), (1, _), (2, _), (3, _), (4, _)]) rfl ?_
          refine w_aload_n F dX8_leaves_26 rfl rfl ?_
          refine w_iload F dX8_leaves_27 rfl ?_
          refine w_callV F (As := [_]) (ct_isLeaf hE hm g hql) (lw_V q841 q843 qs38 q88 q844) md_X8_isLeaf (by omega) cell_mdO rfl rfl rfl rfl (Nat.le_of_ble_eq_true rfl) dX8_leaves_29 ⟨by omega, by omega⟩ ⟨by omega, by omega⟩ ?_
          rintro _ _ ⟨rfl, rfl⟩
          rw [h5.f 6 rfl]
          cases t1 with
          | leaf j =>
            obtain ⟨e1, e2, e3, e4, e5, e6, e7⟩ := hq
            refine w_if_eq F (tgt := 54) dX8_leaves_32 (by decide) (b2i_R _) (fun h7 => ?_) (fun h7 => ?_)
            · rw [b2i_0] at h7
              exact absurd e3 h7
            · refine w_aload_n F dX8_leaves_35 rfl rfl ?_
              refine w_get F (by omega) cell_mdO rfl in_X8 13 (by decide) (Or.inl q885) rfl dX8_leaves_36 ?_
              refine w_iload_n F dX8_leaves_39 rfl ?_
              refine w_aload_n F dX8_leaves_40 rfl rfl ?_
              refine w_get F (by omega) cell_mdO rfl in_X8 8 (by decide) (Or.inl q880) rfl dX8_leaves_41 ?_
              refine w_iload F dX8_leaves_44 rfl ?_
              first | refine w_ialdN F (aM8 _) (by omega) (by decide) (by omega) dX8_leaves_46 ?_ | refine w_iald F (aM8 _) (by omega) (by decide) (by omega) (by omega) dX8_leaves_46 ?_
              refine w_top (z' := (j : Int)) (by rw [h5.f 8 rfl]; exact e4) ?_
              first | refine w_iastN F (aM13 _) (by omega) (by decide) rfl rfl (by first | assumption | exact inR0 | exact (hR _ _ _).1 | (constructor <;> omega)) (by omega) dX8_leaves_47 ?_ | refine w_iast F (aM13 _) (by omega) (by decide) rfl rfl (by first | assumption | exact inR0 | exact (hR _ _ _).1 | (constructor <;> omega)) (by omega) (by omega) dX8_leaves_47 ?_
              refine w_iinc F dX8_leaves_48 rfl (by decide) rfl (lv' := [(0, _), (1, _), (2, _), (3, _), (4, _)]) rfl ?_
              refine w_goto F (tgt := 85) dX8_leaves_51 (by decide) ?_
              refine w_goto F (tgt := 11) dX8_leaves_85 (by decide) ?_
              refine w_keep [0, 1, 2, 3] (lv' := [(0, _), (1, _), (2, _), (3, _)]) rfl ?_
              have := ih bs' (dn ++ [j]) (gu g 0 13 dn.length j) (by simp [nn] at h1; omega) (fun q hq => h2 q (by simp [hq])) (h3.pre.ot (by decide)) (by show HL _ (List.map _ _); rw [List.map_append]; exact h4.sn (by simp)) (h5.up (by decide)) (by rw [← h6]; simp [tl])
              simpa using this
          | branch κ a b =>
            obtain ⟨xa, xb, na, nb, e1, e2, e3, e4, e5, e6, e7⟩ := hq
            refine w_if_eq F (tgt := 54) dX8_leaves_32 (by decide) (b2i_R _) (fun h7 => ?_) (fun h7 => ?_)
            · have hxa := e5.lt
              have hxb := e6.lt
              refine w_aload_n F dX8_leaves_54 rfl rfl ?_
              refine w_get F (by omega) cell_mdO rfl in_X8 12 (by decide) (Or.inl q884) rfl dX8_leaves_55 ?_
              refine w_iload_n F dX8_leaves_58 rfl ?_
              refine w_aload_n F dX8_leaves_59 rfl rfl ?_
              refine w_get F (by omega) cell_mdO rfl in_X8 7 (by decide) (Or.inl q879) rfl dX8_leaves_60 ?_
              refine w_iload F dX8_leaves_63 rfl ?_
              first | refine w_ialdN F (aM7 _) (by omega) (by decide) (by omega) dX8_leaves_65 ?_ | refine w_iald F (aM7 _) (by omega) (by decide) (by omega) (by omega) dX8_leaves_65 ?_
              refine w_top (z' := (xb : Int)) (by rw [h5.f 7 rfl]; exact e4) ?_
              first | refine w_iastN F (aM12 _) (by omega) (by decide) rfl rfl (by first | assumption | exact inR0 | exact (hR _ _ _).1 | (constructor <;> omega)) (by omega) dX8_leaves_66 ?_ | refine w_iast F (aM12 _) (by omega) (by decide) rfl rfl (by first | assumption | exact inR0 | exact (hR _ _ _).1 | (constructor <;> omega)) (by omega) (by omega) dX8_leaves_66 ?_
              refine w_aload_n F dX8_leaves_67 rfl rfl ?_
              refine w_get F (by omega) cell_mdO rfl in_X8 12 (by decide) (Or.inl q884) rfl dX8_leaves_68 ?_
              refine w_iload_n F dX8_leaves_71 rfl ?_
              refine w_iconst F dX8_leaves_72 ?_
              refine w_iadd F dX8_leaves_73 ?_
              refine w_top (z' := ((bs'.length + 1 : Nat) : Int)) rfl ?_
              refine w_aload_n F dX8_leaves_74 rfl rfl ?_
              refine w_get F (by omega) cell_mdO rfl in_X8 6 (by decide) (Or.inl q878) rfl dX8_leaves_75 ?_
              refine w_iload F dX8_leaves_78 rfl ?_
              first | refine w_ialdN F (aM6 _) (by omega) (by decide) (by omega) dX8_leaves_80 ?_ | refine w_iald F (aM6 _) (by omega) (by decide) (by omega) (by omega) dX8_leaves_80 ?_
              refine w_top (z' := (xa : Int)) (by rw [gu_f (show (6 : Nat) ≠ 12 by decide), h5.f 6 rfl]; exact e3) ?_
              first | refine w_iastN F (aM12 _) (by omega) (by decide) rfl rfl (by first | assumption | exact inR0 | exact (hR _ _ _).1 | (constructor <;> omega)) (by omega) dX8_leaves_81 ?_ | refine w_iast F (aM12 _) (by omega) (by decide) rfl rfl (by first | assumption | exact inR0 | exact (hR _ _ _).1 | (constructor <;> omega)) (by omega) (by omega) dX8_leaves_81 ?_
              refine w_iinc F dX8_leaves_82 rfl (by decide) rfl (lv' := [(0, _), (1, _), (2, _), (3, _), (4, _)]) rfl ?_
              refine w_goto F (tgt := 11) dX8_leaves_85 (by decide) ?_
              refine w_keep [0, 1, 2, 3] (lv' := [(0, _), (1, _), (2, _), (3, _)]) rfl ?_
              have e9 : (bs'.length : Int) + 2 = (((bs' ++ [(b, xb, nb)] ++ [(a, xa, na)]).length : Nat) : Int) := by simp
              rw [e9]
              refine ih (bs' ++ [(b, xb, nb)] ++ [(a, xa, na)]) dn _ ?_ ?_ ?_ (((h4.ot (by decide)).ot (by decide))) ((h5.up (by decide)).up (by decide)) ?_
              · simp [nn] at h1 ⊢; omega
              · intro q hq
                simp at hq
                rcases hq with hq | hq | hq
                · exact h2 q (by simp [hq])
                · rw [hq]; exact e6
                · rw [hq]; exact e5
              · rw [List.map_append, List.map_append]
                exact (h3.pre.sn (by simp)).sn (by simp)
              · rw [← h6]; simp [tl]
            · rw [b2i_n0] at h7
              omega
  have := loop (nn t + 1) [(t, x, ns)] [] (gu γ 0 12 0 x) (by simp) (by simpa using hr) (HL.sn (L := []) (HL.nil _) rfl) (HL.nil _) (Off0.rf.up (by decide)) (by simp)
  exact this
end M3
