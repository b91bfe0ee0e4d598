/-! the model: nodes given back, trees parted anew -/
theorem pm_leaf {fr B L : List Nat} {x : Nat} (h : (fr ++ (B ++ [x])).Perm L) : ((x :: fr) ++ B).Perm L := by
  rw [List.perm_iff_count] at h ⊢
  intro a
  have := h a
  simp [List.count_cons] at this ⊢
  omega
theorem pm_br {fr B L na nb : List Nat} {x : Nat} (h : (fr ++ (B ++ (x :: (na ++ nb)))).Perm L) : ((x :: fr) ++ (B ++ nb ++ na)).Perm L := by
  rw [List.perm_iff_count] at h ⊢
  intro a
  have := h a
  simp [List.count_cons] at this ⊢
  omega
theorem pig : ∀ (n : Nat) (us : List Nat), us.Nodup → us.length < n → ∃ x, x < n ∧ x ∉ us
  | 0, us, _, h => by omega
  | n + 1, us, hn, h => by
    by_cases e : n ∈ us
    · obtain ⟨x, h1, h2⟩ := pig n (us.erase n) (hn.erase n) (by rw [List.length_erase_of_mem e]; have := List.length_pos_of_mem e; omega)
      exact ⟨x, by omega, fun q => h2 ((List.mem_erase_of_ne (by omega)).mpr q)⟩
    · exact ⟨n, by omega, e⟩
/-- the model's nodes in use are us -/
def UsM (σ : Nat → Nat → Int) (us : List Nat) : Prop := us.Nodup ∧ (∀ z ∈ us, z < 24) ∧ ∀ z, z < 24 → (σ 6 z = -2 ↔ z ∉ us)
/-- a job's key -/
def keyM (σ : Nat → Nat → Int) (j : Nat) : Nat := (16 * σ 2 j + j).toNat
def bld (κ : Nat → Nat) (L : List Nat) : TT :=
  if _h : L.length ≤ 1 then .leaf (L.headD 0) else .branch (κ (L.getD ((L.length + 1) / 2 - 1) 0)) (bld κ (L.take ((L.length + 1) / 2))) (bld κ (L.drop ((L.length + 1) / 2)))
termination_by L.length
decreasing_by
  · simp; omega
  · simp; omega
theorem bld_1 (κ : Nat → Nat) (j : Nat) : bld κ [j] = .leaf j := by rw [bld]; simp
theorem bld_2 (κ : Nat → Nat) {L : List Nat} (h : 1 < L.length) : bld κ L = .branch (κ (L.getD ((L.length + 1) / 2 - 1) 0)) (bld κ (L.take ((L.length + 1) / 2))) (bld κ (L.drop ((L.length + 1) / 2))) := by
  rw [bld]
  exact dif_neg (by omega)
theorem tl_bld (κ : Nat → Nat) : ∀ (n : Nat) (L : List Nat), L.length = n → 0 < n → tl (bld κ L) = L := by
  intro n
  induction n using Nat.strongRecOn with
  | _ n ih =>
    intro L h h0
    by_cases h1 : L.length = 1
    · obtain ⟨j, rfl⟩ := List.length_eq_one_iff.mp h1
      rw [bld_1]
      rfl
    · rw [bld_2 κ (by omega)]
      show tl _ ++ tl _ = L
      rw [ih ((L.length + 1) / 2) (by omega) _ (by simp; omega) (by omega), ih (L.length - (L.length + 1) / 2) (by omega) _ (by simp) (by omega), List.take_append_drop]
section M4
variable {l : Launch} {E : EE}
theorem ct_frees (hE : EOk E) (hm : 438 ≤ E.nk) (γ : GG) {x : Nat} {t : TT} {ns : List Nat} (hr : RepM (γ 0) t x ns) (ht : (tl t).length ≤ 12) (hnd : ns.Nodup) : Ct l yX8_frees cX8_frees 4 none E 200 20000 [.ref (E.ad 414), .int (iI (x : Int))] γ (fun v g => v = none ∧ (∀ y, g 0 6 y = if y ∈ ns.tail then -2 else γ 0 6 y) ∧ Off0 [6, 12] γ g) 0 0 := by
  refine Ct.of hE (by decide) (Nat.le_of_ble_eq_true rfl) (fun Φ hLn hΦ F hfr hlo => ?_)
  subst hLn; subst hΦ
  have h414 := F.ok.1.2.2
  have hrc := F.rc
  have hrs := F.rs
  show Wg Φ 4 _ 0 0 0 [(0, _), (1, _)] []
  refine w_rng (fun hR => ?_)
  have hx := hr.lt
  have loop : ∀ (m : Nat) (bs : List (TT × Nat × List Nat)) (fr : List Nat) (g : GG), (bs.map fun q => nn q.1).sum < m → (∀ q ∈ bs, RepM (γ 0) q.1 q.2.1 q.2.2) → HL (g 0 12) (bs.map fun q => (q.2.1 : Int)) → (∀ y, g 0 6 y = if y ∈ fr then -2 else γ 0 6 y) → Off0 [6, 12] γ g → (fr ++ bs.flatMap fun q => q.2.2).Perm ns.tail → (bs.flatMap fun q => tl q.1).length ≤ 12 → Wg Φ 4 g 0 0 36 [(0, .ref (Φ.E.ad 414)), (1, .int (iI (x : Int))), (2, .int (iI (bs.length : Int)))] [] := by
    intro m
    induction m with
    | zero => intro bs fr g h1; omega
    | succ m ih =>
      intro bs fr g h1 h2 h3 h4 h5 h6 h12
      have hlen : bs.length ≤ 12 := by
        have a1 := flat_len (fun q : TT × Nat × List Nat => q.1) bs
        omega
      rcases List.eq_nil_or_concat bs with e | ⟨bs', ⟨t1, x1, n1⟩, e⟩
      · subst e
        simp at h6
        refine w_iload_n F dX8_frees_36 rfl ?_
        refine w_if_le F (tgt := 98) dX8_frees_37 (by decide) (by first | assumption | exact inR0 | exact (hR _ _ _).1 | (constructor <;> omega)) (fun h => ?_) (fun h => ?_)
        · skip
          exact w_vret F (by omega) (by omega) (⟨rfl, fun y => by rw [h4 y]; simp only [h6.mem_iff], h5⟩) dX8_frees_98
        · simp at h
      · subst e
        simp only [List.concat_eq_append, List.map_append, List.map_cons, List.map_nil, List.sum_append, List.sum_cons, List.sum_nil, List.length_append, List.length_cons, List.length_nil, List.flatMap_append, List.flatMap_cons, List.flatMap_nil, List.append_nil] at h1 h3 h6 h12 hlen ⊢
        have hq : RepM (γ 0) t1 x1 n1 := h2 (t1, x1, n1) (by simp)
        have hql := hq.lt
        have hlast := h3.last
        simp only [List.length_map] at hlast
        have hnin : x1 ∉ fr := by
          have h7 : (fr ++ (bs'.flatMap (fun q => q.2.2) ++ n1)).Nodup := h6.nodup_iff.mpr hnd.tail
          obtain ⟨r, hr1⟩ := hq.hd
          intro hin
          exact (List.nodup_append.mp h7).2.2 x1 hin x1 (by rw [hr1]; simp) rfl
        have h6x : g 0 6 x1 = γ 0 6 x1 := by rw [h4 x1, if_neg hnin]
        refine w_rng (fun hR => ?_)
        refine w_iload_n F dX8_frees_36 rfl ?_
        refine w_if_le F (tgt := 98) dX8_frees_37 (by decide) (by first | assumption | exact inR0 | exact (hR _ _ _).1 | (constructor <;> omega)) (fun h => ?_) (fun h => ?_)
        · omega
        · refine w_iinc F dX8_frees_40 rfl (by decide) rfl (lv' := [(0, _), (1, _), (2, _)]) rfl ?_
          rw [show ((bs'.length + (0 + 1) : Nat) : Int) + -1 = (bs'.length : Int) by omega]
          refine w_aload_n F dX8_frees_43 rfl rfl ?_
          refine w_get F (by omega) cell_mdO rfl in_X8 12 (by decide) (Or.inl q884) rfl dX8_frees_44 ?_
          refine w_iload_n F dX8_frees_47 rfl ?_
          first | refine w_ialdN F (aM12 _) (by omega) (by decide) (by omega) dX8_frees_48 ?_ | refine w_iald F (aM12 _) (by omega) (by decide) (by omega) (by omega) dX8_frees_48 ?_
          refine w_top hlast ?_
          refine w_istore_n F dX8_frees_49 (by decide) rfl (lv' := [(0, _), (1, _), (2, _), (3, _)]) rfl ?_
          refine w_aload_n F dX8_frees_50 rfl rfl ?_
          refine w_iload_n F dX8_frees_51 rfl ?_
          refine w_callV F (As := [_]) (ct_isLeaf hE hm g hql) (lw_V q841 q843 qs38 q88 q844) md_X8_isLeaf (by omega) cell_mdO rfl rfl rfl rfl (Nat.le_of_ble_eq_true rfl) dX8_frees_52 ⟨by omega, by omega⟩ ⟨by omega, by omega⟩ ?_
          rintro _ _ ⟨rfl, rfl⟩
          rw [h6x]
          have hup : ∀ (g2 : GG), (∀ y, g2 0 6 y = if y ∈ fr then -2 else γ 0 6 y) → ∀ y, gu g2 0 6 x1 (-2) 0 6 y = if y ∈ x1 :: fr then -2 else γ 0 6 y := by
            intro g2 hg2 y
            by_cases e : y = x1
            · subst e; rw [gu_s, if_pos List.mem_cons_self]
            · rw [gu_n (by omega), hg2 y]
              simp [e]
          cases t1 with
          | leaf j =>
            obtain ⟨e1, e2, e3, e4, e5, e6, e7⟩ := hq
            refine w_if_ne F (tgt := 87) dX8_frees_55 (by decide) (b2i_R _) (fun h7 => ?_) (fun h7 => ?_)
            · refine w_aload_n F dX8_frees_87 rfl rfl ?_
              refine w_get F (by omega) cell_mdO rfl in_X8 6 (by decide) (Or.inl q878) rfl dX8_frees_88 ?_
              refine w_iload_n F dX8_frees_91 rfl ?_
              refine w_bipush F dX8_frees_92 rfl ?_
              first | refine w_iastN F (aM6 _) (by omega) (by decide) rfl rfl (by first | assumption | exact inR0 | exact (hR _ _ _).1 | (constructor <;> omega)) (by omega) dX8_frees_94 ?_ | refine w_iast F (aM6 _) (by omega) (by decide) rfl rfl (by first | assumption | exact inR0 | exact (hR _ _ _).1 | (constructor <;> omega)) (by omega) (by omega) dX8_frees_94 ?_
              refine w_goto F (tgt := 36) dX8_frees_95 (by decide) ?_
              refine w_keep [0, 1, 2] (lv' := [(0, _), (1, _), (2, _)]) rfl ?_
              refine ih bs' (x1 :: fr) _ (by simp [nn] at h1; omega) (fun q hq => h2 q (by simp [hq])) (h3.pre.ot (by decide)) (hup g h4) (h5.up (by decide)) ?_ (by simp [tl] at h12 ⊢; omega)
              rw [e1] at h6
              exact pm_leaf h6
            · rw [b2i_0] at h7
              exact absurd e3 h7
          | branch κ a b =>
            obtain ⟨xa, xb, na, nb, e1, e2, e3, e4, e5, e6, e7⟩ := hq
            have hxa := e5.lt
            have hxb := e6.lt
            have ha1 := tl_pos a
            have hb1 := tl_pos b
            have hf2 := flat_len (fun q : TT × Nat × List Nat => q.1) bs'
            simp [tl] at h12
            simp [tl] at hf2
            refine w_if_ne F (tgt := 87) dX8_frees_55 (by decide) (b2i_R _) (fun h7 => ?_) (fun h7 => ?_)
            · rw [b2i_n0] at h7
              omega
            · refine w_aload_n F dX8_frees_58 rfl rfl ?_
              refine w_get F (by omega) cell_mdO rfl in_X8 12 (by decide) (Or.inl q884) rfl dX8_frees_59 ?_
              refine w_iload_n F dX8_frees_62 rfl ?_
              refine w_aload_n F dX8_frees_63 rfl rfl ?_
              refine w_get F (by omega) cell_mdO rfl in_X8 7 (by decide) (Or.inl q879) rfl dX8_frees_64 ?_
              refine w_iload_n F dX8_frees_67 rfl ?_
              first | refine w_ialdN F (aM7 _) (by omega) (by decide) (by omega) dX8_frees_68 ?_ | refine w_iald F (aM7 _) (by omega) (by decide) (by omega) (by omega) dX8_frees_68 ?_
              refine w_top (z' := (xb : Int)) (by rw [h5.f 7 rfl]; exact e4) ?_
              first | refine w_iastN F (aM12 _) (by omega) (by decide) rfl rfl (by first | assumption | exact inR0 | exact (hR _ _ _).1 | (constructor <;> omega)) (by omega) dX8_frees_69 ?_ | refine w_iast F (aM12 _) (by omega) (by decide) rfl rfl (by first | assumption | exact inR0 | exact (hR _ _ _).1 | (constructor <;> omega)) (by omega) (by omega) dX8_frees_69 ?_
              refine w_aload_n F dX8_frees_70 rfl rfl ?_
              refine w_get F (by omega) cell_mdO rfl in_X8 12 (by decide) (Or.inl q884) rfl dX8_frees_71 ?_
              refine w_iload_n F dX8_frees_74 rfl ?_
              refine w_iconst F dX8_frees_75 ?_
              refine w_iadd F dX8_frees_76 ?_
              refine w_top (z' := ((bs'.length + 1 : Nat) : Int)) rfl ?_
              refine w_aload_n F dX8_frees_77 rfl rfl ?_
              refine w_get F (by omega) cell_mdO rfl in_X8 6 (by decide) (Or.inl q878) rfl dX8_frees_78 ?_
              refine w_iload_n F dX8_frees_81 rfl ?_
              first | refine w_ialdN F (aM6 _) (by omega) (by decide) (by omega) dX8_frees_82 ?_ | refine w_iald F (aM6 _) (by omega) (by decide) (by omega) (by omega) dX8_frees_82 ?_
              refine w_top (z' := (xa : Int)) (by rw [gu_f (show (6 : Nat) ≠ 12 by decide), h6x]; exact e3) ?_
              first | refine w_iastN F (aM12 _) (by omega) (by decide) rfl rfl (by first | assumption | exact inR0 | exact (hR _ _ _).1 | (constructor <;> omega)) (by omega) dX8_frees_83 ?_ | refine w_iast F (aM12 _) (by omega) (by decide) rfl rfl (by first | assumption | exact inR0 | exact (hR _ _ _).1 | (constructor <;> omega)) (by omega) (by omega) dX8_frees_83 ?_
              refine w_iinc F dX8_frees_84 rfl (by decide) rfl (lv' := [(0, _), (1, _), (2, _), (3, _)]) rfl ?_
              refine w_aload_n F dX8_frees_87 rfl rfl ?_
              refine w_get F (by omega) cell_mdO rfl in_X8 6 (by decide) (Or.inl q878) rfl dX8_frees_88 ?_
              refine w_iload_n F dX8_frees_91 rfl ?_
              refine w_bipush F dX8_frees_92 rfl ?_
              first | refine w_iastN F (aM6 _) (by omega) (by decide) rfl rfl (by first | assumption | exact inR0 | exact (hR _ _ _).1 | (constructor <;> omega)) (by omega) dX8_frees_94 ?_ | refine w_iast F (aM6 _) (by omega) (by decide) rfl rfl (by first | assumption | exact inR0 | exact (hR _ _ _).1 | (constructor <;> omega)) (by omega) (by omega) dX8_frees_94 ?_
              refine w_goto F (tgt := 36) dX8_frees_95 (by decide) ?_
              refine w_keep [0, 1, 2] (lv' := [(0, _), (1, _), (2, _)]) rfl ?_
              have e9 : (bs'.length : Int) + 2 = (((bs' ++ [(b, xb, nb)] ++ [(a, xa, na)]).length : Nat) : Int) := by simp
              rw [e9]
              refine ih (bs' ++ [(b, xb, nb)] ++ [(a, xa, na)]) (x1 :: fr) _ ?_ ?_ ?_ (hup _ (fun y => by rw [gu_f (show (6 : Nat) ≠ 12 by decide), gu_f (show (6 : Nat) ≠ 12 by decide)]; exact h4 y)) (((h5.up (by decide)).up (by decide)).up (by decide)) ?_ ?_
              · simp [nn] at h1 ⊢; omega
              · intro q hq
                simp at hq
                rcases hq with hq | hq | hq
                · exact h2 q (by simp [hq])
                · rw [hq]; exact e6
                · rw [hq]; exact e5
              · rw [List.map_append, List.map_append]
                exact ((h3.pre.sn (by simp)).sn (by simp)).ot (by decide)
              · rw [e1] at h6
                have := pm_br h6
                simpa using this
              · simp; omega
  refine w_iconst F dX8_frees_0 ?_
  refine w_istore_n F dX8_frees_1 (by decide) rfl (lv' := [(0, _), (1, _), (2, _)]) rfl ?_
  refine w_aload_n F dX8_frees_2 rfl rfl ?_
  refine w_iload_n F dX8_frees_3 rfl ?_
  refine w_callV F (As := [_]) (ct_isLeaf hE hm γ hx) (lw_V q841 q843 qs38 q88 q844) md_X8_isLeaf (by omega) cell_mdO rfl rfl rfl rfl (Nat.le_of_ble_eq_true rfl) dX8_frees_4 ⟨by omega, by omega⟩ ⟨by omega, by omega⟩ ?_
  rintro _ _ ⟨rfl, rfl⟩
  cases t with
  | leaf j =>
    obtain ⟨e1, e2, e3, e4, e5, e6, e7⟩ := hr
    refine w_if_ne F (tgt := 36) dX8_frees_7 (by decide) (b2i_R _) (fun h7 => ?_) (fun h7 => ?_)
    · exact loop 1 [] [] γ (by simp) (by simp) (HL.nil _) (by simp) Off0.rf (by rw [e1]; simp) (by simp)
    · rw [b2i_0] at h7
      exact absurd e3 h7
  | branch κ a b =>
    obtain ⟨xa, xb, na, nb, e1, e2, e3, e4, e5, e6, e7⟩ := hr
    have hxa := e5.lt
    have hxb := e6.lt
    refine w_if_ne F (tgt := 36) dX8_frees_7 (by decide) (b2i_R _) (fun h7 => ?_) (fun h7 => ?_)
    · rw [b2i_n0] at h7
      omega
    · refine w_aload_n F dX8_frees_10 rfl rfl ?_
      refine w_get F (by omega) cell_mdO rfl in_X8 12 (by decide) (Or.inl q884) rfl dX8_frees_11 ?_
      refine w_iconst F dX8_frees_14 ?_
      refine w_aload_n F dX8_frees_15 rfl rfl ?_
      refine w_get F (by omega) cell_mdO rfl in_X8 7 (by decide) (Or.inl q879) rfl dX8_frees_16 ?_
      refine w_iload_n F dX8_frees_19 rfl ?_
      first | refine w_ialdN F (aM7 _) (by omega) (by decide) (by omega) dX8_frees_20 ?_ | refine w_iald F (aM7 _) (by omega) (by decide) (by omega) (by omega) dX8_frees_20 ?_
      refine w_top (z' := (xb : Int)) e4 ?_
      first | refine w_iastN F (aM12 _) (by omega) (by decide) rfl rfl (by first | assumption | exact inR0 | exact (hR _ _ _).1 | (constructor <;> omega)) (by omega) dX8_frees_21 ?_ | refine w_iast F (aM12 _) (by omega) (by decide) rfl rfl (by first | assumption | exact inR0 | exact (hR _ _ _).1 | (constructor <;> omega)) (by omega) (by omega) dX8_frees_21 ?_
      refine w_aload_n F dX8_frees_22 rfl rfl ?_
      refine w_get F (by omega) cell_mdO rfl in_X8 12 (by decide) (Or.inl q884) rfl dX8_frees_23 ?_
      refine w_iconst F dX8_frees_26 ?_
      refine w_aload_n F dX8_frees_27 rfl rfl ?_
      refine w_get F (by omega) cell_mdO rfl in_X8 6 (by decide) (Or.inl q878) rfl dX8_frees_28 ?_
      refine w_iload_n F dX8_frees_31 rfl ?_
      first | refine w_ialdN F (aM6 _) (by omega) (by decide) (by omega) dX8_frees_32 ?_ | refine w_iald F (aM6 _) (by omega) (by decide) (by omega) (by omega) dX8_frees_32 ?_
      refine w_top (z' := (xa : Int)) (by rw [gu_f (show (6 : Nat) ≠ 12 by decide)]; exact e3) ?_
      first | refine w_iastN F (aM12 _) (by omega) (by decide) rfl rfl (by first | assumption | exact inR0 | exact (hR _ _ _).1 | (constructor <;> omega)) (by omega) dX8_frees_33 ?_ | refine w_iast F (aM12 _) (by omega) (by decide) rfl rfl (by first | assumption | exact inR0 | exact (hR _ _ _).1 | (constructor <;> omega)) (by omega) (by omega) dX8_frees_33 ?_
      refine w_iconst F dX8_frees_34 ?_
      refine w_istore_n F dX8_frees_35 (by decide) rfl (lv' := [(0, _), (1, _), (2, _)]) rfl ?_
      refine loop (nn a + nn b + 1) [(b, xb, nb), (a, xa, na)] [] _ (by simp; omega) (by simp [e5, e6]) ?_ (by simp [gu]) ((Off0.rf.up (by decide)).up (by decide)) ?_ ?_
      · exact HL.sn (L := [(xb : Int)]) (HL.sn (L := []) (HL.nil _) rfl) rfl
      · rw [e1]
        simp
        exact List.perm_append_comm
      · simp [tl] at ht ⊢; omega
end M4
