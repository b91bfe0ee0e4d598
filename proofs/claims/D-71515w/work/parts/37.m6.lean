/-! the model: leans, settles -/
section M6
variable {l : Launch} {E : EE}
theorem ct_leansM (hE : EOk E) (hm : 438 ≤ E.nk) (γ : GG) {x : Nat} {κ : Nat} {a b : TT} {ns : List Nat} (hr : RepM (γ 0) (.branch κ a b) x ns) (ht : (tl a).length + (tl b).length ≤ 12) : Ct l yX8_leans cX8_leans 4 (some .boolean) E 300 24000 [.ref (E.ad 414), .int (iI (x : Int))] γ (fun v g => v = some (.int (iI (b2i (leansB (.branch κ a b) = true)))) ∧ Off0 [12, 13] γ g) 0 0 := by
  refine Ct.of hE (by decide) (Nat.le_of_ble_eq_true rfl) (fun Φ hLn hΦ F hfr hlo => ?_)
  subst hLn; subst hΦ
  have h414 := F.ok.1.2.2
  have hrc := F.rc
  have hrs := F.rs
  show Wg Φ 4 _ 0 0 0 [(0, _), (1, _)] []
  refine w_rng (fun hR => ?_)
  obtain ⟨xa, xb, na, nb, e1, e2, e3, e4, e5, e6, e7⟩ := hr
  refine w_aload_n F dX8_leans_0 rfl rfl ?_
  refine w_aload_n F dX8_leans_1 rfl rfl ?_
  refine w_get F (by omega) cell_mdO rfl in_X8 6 (by decide) (Or.inl q878) rfl dX8_leans_2 ?_
  refine w_iload_n F dX8_leans_5 rfl ?_
  first | refine w_ialdN F (aM6 _) (by omega) (by decide) (by omega) dX8_leans_6 ?_ | refine w_iald F (aM6 _) (by omega) (by decide) (by omega) (by omega) dX8_leans_6 ?_
  refine w_top e3 ?_
  refine w_callV F (As := [_]) (ct_leaves hE hm γ e5 (by omega)) (lw_V q860 q862 qs42 q88 q863) md_X8_leaves (by omega) cell_mdO rfl rfl rfl rfl (Nat.le_of_ble_eq_true rfl) dX8_leans_7 ⟨by omega, by omega⟩ ⟨by omega, by omega⟩ ?_
  rintro _ g1 ⟨rfl, _, o1⟩
  refine w_istore_n F dX8_leans_10 (by decide) rfl (lv' := [(0, _), (1, _), (2, _)]) rfl ?_
  refine w_aload_n F dX8_leans_11 rfl rfl ?_
  refine w_aload_n F dX8_leans_12 rfl rfl ?_
  refine w_get F (by omega) cell_mdO rfl in_X8 7 (by decide) (Or.inl q879) rfl dX8_leans_13 ?_
  refine w_iload_n F dX8_leans_16 rfl ?_
  first | refine w_ialdN F (aM7 _) (by omega) (by decide) (by omega) dX8_leans_17 ?_ | refine w_iald F (aM7 _) (by omega) (by decide) (by omega) (by omega) dX8_leans_17 ?_
  refine w_top (z' := (xb : Int)) (by rw [o1.f 7 rfl]; exact e4) ?_
  refine w_callV F (As := [_]) (ct_leaves hE hm g1 (e6.off o1 rfl) (by omega)) (lw_V q860 q862 qs42 q88 q863) md_X8_leaves (by omega) cell_mdO rfl rfl rfl rfl (Nat.le_of_ble_eq_true rfl) dX8_leans_18 ⟨by omega, by omega⟩ ⟨by omega, by omega⟩ ?_
  rintro _ g2 ⟨rfl, _, o2⟩
  have hl : leansB (.branch κ a b) = true ↔ ((tl a).length > 2 * (tl b).length + 1 ∨ (tl b).length > 2 * (tl a).length + 1) := by simp [leansB]
  refine w_istore_n F dX8_leans_21 (by decide) rfl (lv' := [(0, _), (1, _), (2, _), (3, _)]) rfl ?_
  refine w_iload_n F dX8_leans_22 rfl ?_
  refine w_iconst F dX8_leans_23 ?_
  refine w_iload_n F dX8_leans_24 rfl ?_
  refine w_imul F dX8_leans_25 ?_
  refine w_iconst F dX8_leans_26 ?_
  refine w_iadd F dX8_leans_27 ?_
  refine w_icmp_gt F (tgt := 40) dX8_leans_28 (by decide) (by first | assumption | exact inR0 | exact (hR _ _ _).1 | (constructor <;> omega)) (by first | assumption | exact inR0 | exact (hR _ _ _).1 | (constructor <;> omega)) (fun h => ?_) (fun h => ?_)
  · refine w_iconst F dX8_leans_40 ?_
    refine w_goto F (tgt := 45) dX8_leans_41 (by decide) ?_
    exact w_zret F (by first | exact Or.inl rfl | exact Or.inr rfl | assumption | omega) (by omega) (by omega) (⟨by rw [b2i_t (hl.mpr (by omega))], o1.tr o2⟩) dX8_leans_45
  · refine w_iload_n F dX8_leans_31 rfl ?_
    refine w_iconst F dX8_leans_32 ?_
    refine w_iload_n F dX8_leans_33 rfl ?_
    refine w_imul F dX8_leans_34 ?_
    refine w_iconst F dX8_leans_35 ?_
    refine w_iadd F dX8_leans_36 ?_
    refine w_icmp_le F (tgt := 44) dX8_leans_37 (by decide) (by first | assumption | exact inR0 | exact (hR _ _ _).1 | (constructor <;> omega)) (by first | assumption | exact inR0 | exact (hR _ _ _).1 | (constructor <;> omega)) (fun h2 => ?_) (fun h2 => ?_)
    · refine w_iconst F dX8_leans_44 ?_
      exact w_zret F (by first | exact Or.inl rfl | exact Or.inr rfl | assumption | omega) (by omega) (by omega) (⟨by rw [b2i_f (fun q => by have := hl.mp q; omega)], o1.tr o2⟩) dX8_leans_45
    · refine w_iconst F dX8_leans_40 ?_
      refine w_goto F (tgt := 45) dX8_leans_41 (by decide) ?_
      exact w_zret F (by first | exact Or.inl rfl | exact Or.inr rfl | assumption | omega) (by omega) (by omega) (⟨by rw [b2i_t (hl.mpr (by omega))], o1.tr o2⟩) dX8_leans_45
theorem ct_settles (hE : EOk E) (hm : 438 ≤ E.nk) (γ : GG) {x : Nat} {t : TT} {ns : List Nat} {ctx : List FrT} (hr : RepM (γ 0) t x ns) (hc : CtxM (γ 0) x ctx) (hu : UsM (γ 0) (ns ++ cn ctx)) (ht : (tl (plug ctx t)).length ≤ 12) (hst : ∀ j ∈ tl (plug ctx t), 0 ≤ γ 0 2 j ∧ γ 0 2 j ≤ 99) (hlv : 0 ≤ γ 0 11 0 ∧ γ 0 11 0 < 2000000000) :
    Ct l yX8_settles cX8_settles 4 none E 400 28000 [.ref (E.ad 414), .int (iI (x : Int))] γ (fun v g => v = none ∧ (∃ ns', RepM (g 0) (settT (keyM (γ 0)) ctx t) (rootC x ctx) ns' ∧ UsM (g 0) ns') ∧ g 0 11 0 = γ 0 11 0 + settN ctx t ∧ Off0 [6, 7, 8, 9, 10, 11, 12, 13, 14, 15] γ g) 0 0 := by
  refine Ct.of hE (by decide) (Nat.le_of_ble_eq_true rfl) (fun Φ hLn hΦ F hfr hlo => ?_)
  subst hLn; subst hΦ
  have h414 := F.ok.1.2.2
  have hrc := F.rc
  have hrs := F.rs
  show Wg Φ 4 _ 0 0 0 [(0, _), (1, _)] []
  refine w_rng (fun hR => ?_)
  have hx := hr.lt
  have hab := abv_in (γ 0) x 24
  refine w_bipush F dX8_settles_0 rfl ?_
  refine w_istore_n F dX8_settles_2 (by decide) rfl (lv' := [(0, _), (1, _), (2, _)]) rfl ?_
  refine w_aload_n F dX8_settles_3 rfl rfl ?_
  refine w_iload_n F dX8_settles_4 rfl ?_
  refine w_callV F (As := [_]) (ct_aboveOf hE hm γ (x := (x : Int)) (by constructor <;> omega)) (lw_V q852 q854 qs40 q88 q855) md_X8_aboveOf (by omega) cell_mdO rfl rfl rfl rfl (Nat.le_of_ble_eq_true rfl) dX8_settles_5 ⟨by omega, by omega⟩ ⟨by omega, by omega⟩ ?_
  rintro _ _ ⟨rfl, rfl⟩
  refine w_istore_n F dX8_settles_8 (by decide) rfl (lv' := [(0, _), (1, _), (2, _), (3, _)]) rfl ?_
  have loop : ∀ (c2 : List FrT) (tc : TT) (c : Nat) (nc : List Nat) (bst : Option (TT × Nat × List FrT)) (g : GG), RepM (γ 0) tc c nc → CtxM (γ 0) c c2 → (nc ++ cn c2).Perm (ns ++ cn ctx) → plug c2 tc = plug ctx t → rootC c c2 = rootC x ctx → (sett c2 tc).or bst = sett ctx t → (∀ q, bst = some q → ∃ n1, RepM (γ 0) q.1 q.2.1 n1 ∧ CtxM (γ 0) q.2.1 q.2.2 ∧ (n1 ++ cn q.2.2).Perm (ns ++ cn ctx) ∧ plug q.2.2 q.1 = plug ctx t ∧ rootC q.2.1 q.2.2 = rootC x ctx) → Off0 [12, 13] γ g →
      Wg Φ 4 g 0 0 9 [(0, .ref (Φ.E.ad 414)), (1, .int (iI (x : Int))), (2, .int (iI (match bst with | some q => (q.2.1 : Int) | none => -4))), (3, .int (iI (abv (γ 0) c 24)))] [] := by
    intro c2
    induction c2 with
    | nil =>
      intro tc c nc bst g h1 h2 h3 h4 h5 h6 h7 h8
      have hu2 : UsM (γ 0) (nc ++ cn []) := hu.perm h3.symm
      simp [cn] at hu2
      rw [abv_root h1 hu2]
      have h6' : bst = sett ctx t := by rw [← h6]; rfl
      cases bst with
      | none =>
        dsimp only
        refine w_iload_n F dX8_settles_9 rfl ?_
        refine w_bipush F dX8_settles_10 rfl ?_
        refine w_icmp_eq F (tgt := 38) dX8_settles_12 (by decide) (by first | assumption | exact inR0 | exact (hR _ _ _).1 | (constructor <;> omega)) (by first | assumption | exact inR0 | exact (hR _ _ _).1 | (constructor <;> omega)) (fun h => ?_) (fun h => ?_)
        · refine w_iload_n F dX8_settles_38 rfl ?_
          refine w_bipush F dX8_settles_39 rfl ?_
          refine w_icmp_eq F (tgt := 59) dX8_settles_41 (by decide) (by first | assumption | exact inR0 | exact (hR _ _ _).1 | (constructor <;> omega)) (by first | assumption | exact inR0 | exact (hR _ _ _).1 | (constructor <;> omega)) (fun h9 => ?_) (fun h9 => ?_)
          · skip
            obtain ⟨nf, f1, f2⟩ := plug_rep hr hc
            exact w_vret F (by omega) (by omega) (⟨rfl, ⟨nf, by unfold settT; rw [← h6']; exact (f1.off h8 rfl), (hu.perm f2.symm).off h8 rfl⟩, by unfold settN; rw [← h6', h8.f 11 rfl]; simp, h8.mono (by decide)⟩) dX8_settles_59
          · exact absurd rfl h9
        · exact absurd rfl h
      | some q =>
        obtain ⟨n1, q1, q2, q3, q4, q5⟩ := h7 q rfl
        have hu3 : UsM (γ 0) (n1 ++ cn q.2.2) := hu.perm q3.symm
        have hql := q1.lt
        have htq : (tl q.1).length ≤ 12 := by have := tl_plug q.2.2 q.1; rw [q4] at this; omega
        have hcap : n1.length + (cn q.2.2).length ≤ 23 := by
          obtain ⟨nf, f1, f2⟩ := plug_rep q1 q2
          have a1 := f1.len
          have a2 := nn_tl (plug q.2.2 q.1)
          rw [q4] at a1 a2
          have a3 := f2.length_eq
          simp at a3
          omega
        dsimp only
        refine w_iload_n F dX8_settles_9 rfl ?_
        refine w_bipush F dX8_settles_10 rfl ?_
        refine w_icmp_eq F (tgt := 38) dX8_settles_12 (by decide) (by first | assumption | exact inR0 | exact (hR _ _ _).1 | (constructor <;> omega)) (by first | assumption | exact inR0 | exact (hR _ _ _).1 | (constructor <;> omega)) (fun h => ?_) (fun h => ?_)
        · refine w_iload_n F dX8_settles_38 rfl ?_
          refine w_bipush F dX8_settles_39 rfl ?_
          refine w_icmp_eq F (tgt := 59) dX8_settles_41 (by decide) (by first | assumption | exact inR0 | exact (hR _ _ _).1 | (constructor <;> omega)) (by first | assumption | exact inR0 | exact (hR _ _ _).1 | (constructor <;> omega)) (fun h9 => ?_) (fun h9 => ?_)
          · omega
          · refine w_aload_n F dX8_settles_44 rfl rfl ?_
            refine w_iload_n F dX8_settles_45 rfl ?_
            refine w_callV F (As := [_]) (ct_levels hE hm g (q1.off h8 rfl) htq (hu3.off h8 rfl) hcap (fun j hj => by rw [h8.f 2 rfl]; exact hst j (by rw [← q4]; exact mem_plug hj))) (lw_V q864 q866 qs43 q88 q867) md_X8_levels (by omega) cell_mdO rfl rfl rfl rfl (Nat.le_of_ble_eq_true rfl) dX8_settles_46 ⟨by omega, by omega⟩ ⟨by omega, by omega⟩ ?_
            rintro _ g2 ⟨rfl, n2, r2, u2, z2, o2⟩
            have hk : keyM (g 0) = keyM (γ 0) := by unfold keyM; rw [h8.f 2 rfl]
            rw [hk] at r2
            refine w_aload_n F dX8_settles_49 rfl rfl ?_
            refine w_dup F dX8_settles_50 rfl ?_
            refine w_getF F (fM11 _) (by omega) rfl in_X8 (by decide) (Or.inl q883) dX8_settles_51 ?_
            refine w_top (z' := γ 0 11 0) (by rw [o2.f 11 rfl, h8.f 11 rfl]) ?_
            refine w_iconst F dX8_settles_54 ?_
            refine w_iadd F dX8_settles_55 ?_
            refine w_putF F (fM11 _) (by omega) rfl in_X8 tyX8 tyX8_ok nmX8 (by decide) (Or.inl q883) rfl rfl rfl (by first | assumption | exact inR0 | exact (hR _ _ _).1 | (constructor <;> omega)) (fun h => by cases h) (fun h => by cases h) dX8_settles_56 ?_
            have c3 : CtxM (g2 0) q.2.1 q.2.2 := (q2.off h8 rfl).cong (fun y hy => ⟨z2 y hy 6 (by omega), z2 y hy 7 (by omega), z2 y hy 8 (by omega), z2 y hy 9 (by omega), z2 y hy 10 (by omega)⟩) (fun f _ j _ => by rw [o2.f 2 rfl])
            obtain ⟨n4, r4, p4⟩ := plug_rep r2 c3
            have o3 : Off0 [11] g2 (gu g2 0 11 0 (γ 0 11 0 + 1)) := Off0.rf.up (by decide)
            exact w_vret F (by omega) (by omega) (⟨rfl, ⟨n4, by unfold settT; rw [← h6', ← q5]; exact r4.off o3 rfl, (u2.perm p4.symm).off o3 rfl⟩, by unfold settN; rw [← h6', gu_s]; rfl, ((h8.mono (by decide)).tr (o2.mono (by decide))).tr (o3.mono (by decide))⟩) dX8_settles_59
        · exact absurd rfl h
    | cons f r ih =>
      intro tc c nc bst g h1 h2 h3 h4 h5 h6 h7 h8
      have hu2 : UsM (γ 0) (nc ++ cn (f :: r)) := hu.perm h3.symm
      rw [abv_ctx h1 h2 hu2]
      obtain ⟨n1, f1, p1⟩ := fill_rep h1 h2.1
      have hfl := f1.lt
      have htf : (tl (fill f tc)).length ≤ 12 := by have := tl_plug r (fill f tc); rw [show plug r (fill f tc) = plug (f :: r) tc from rfl, h4] at this; omega
      have ha2 := abv_in (γ 0) f.1 24
      have hp3 : (n1 ++ cn r).Perm (ns ++ cn ctx) := by
        refine List.Perm.trans ?_ h3
        rw [List.perm_iff_count] at p1 ⊢
        intro a
        have := p1 a
        simp [cn, List.count_cons] at this ⊢
        omega
      obtain ⟨κ, a, b, hfe⟩ : ∃ κ a b, fill f tc = .branch κ a b := by
        unfold fill
        split
        · exact ⟨_, _, _, rfl⟩
        · exact ⟨_, _, _, rfl⟩
      refine w_iload_n F dX8_settles_9 rfl ?_
      refine w_bipush F dX8_settles_10 rfl ?_
      refine w_icmp_eq F (tgt := 38) dX8_settles_12 (by decide) (by first | assumption | exact inR0 | exact (hR _ _ _).1 | (constructor <;> omega)) (by first | assumption | exact inR0 | exact (hR _ _ _).1 | (constructor <;> omega)) (fun h => ?_) (fun h => ?_)
      · omega
      · have f1' := f1
        rw [hfe] at f1' htf
        refine w_aload_n F dX8_settles_15 rfl rfl ?_
        refine w_iload_n F dX8_settles_16 rfl ?_
        refine w_callV F (As := [_]) (ct_leansM hE hm g (f1'.off h8 rfl) (by simpa [tl] using htf)) (lw_V q856 q858 qs41 q88 q859) md_X8_leans (by omega) cell_mdO rfl rfl rfl rfl (Nat.le_of_ble_eq_true rfl) dX8_settles_17 ⟨by omega, by omega⟩ ⟨by omega, by omega⟩ ?_
        rintro _ g2 ⟨rfl, o2⟩
        rw [← hfe]
        have o3 := h8.tr o2
        refine w_if_eq F (tgt := 27) dX8_settles_20 (by decide) (b2i_R _) (fun h9 => ?_) (fun h9 => ?_)
        · rw [b2i_0] at h9
          refine w_iload_n F dX8_settles_27 rfl ?_
          refine w_istore_n F dX8_settles_28 (by decide) rfl (lv' := [(0, _), (1, _), (2, _), (3, _)]) rfl ?_
          refine w_aload_n F dX8_settles_29 rfl rfl ?_
          refine w_iload_n F dX8_settles_30 rfl ?_
          refine w_callV F (As := [_]) (ct_aboveOf hE hm g2 (x := (f.1 : Int)) (by constructor <;> omega)) (lw_V q852 q854 qs40 q88 q855) md_X8_aboveOf (by omega) cell_mdO rfl rfl rfl rfl (Nat.le_of_ble_eq_true rfl) dX8_settles_31 ⟨by omega, by omega⟩ ⟨by omega, by omega⟩ ?_
          rintro _ _ ⟨rfl, rfl⟩
          refine w_istore_n F dX8_settles_34 (by decide) rfl (lv' := [(0, _), (1, _), (2, _), (3, _)]) rfl ?_
          refine w_goto F (tgt := 9) dX8_settles_35 (by decide) ?_
          have e9 : abv (g2 0) f.1 24 = abv (γ 0) f.1 24 := by
            have : ∀ n, abv (g2 0) f.1 n = abv (γ 0) f.1 n := by
              intro n
              induction n with
              | zero => rfl
              | succ n ih2 => unfold abv; rw [ih2, o3.f 6 rfl, o3.f 7 rfl]
            exact this 24
          rw [e9]
          refine ih (fill f tc) f.1 n1 bst g2 f1 h2.2 hp3 h4 h5 ?_ h7 o3
          rw [← h6]
          show _ = Option.or (match sett r (fill f tc) with | some q => some q | none => if leansB (fill f tc) = true then some (fill f tc, f.1, r) else none) bst
          cases sett r (fill f tc) with
          | some q => rfl
          | none => simp [h9]
        · rw [b2i_n0] at h9
          refine w_iload_n F dX8_settles_23 rfl ?_
          refine w_goto F (tgt := 28) dX8_settles_24 (by decide) ?_
          refine w_istore_n F dX8_settles_28 (by decide) rfl (lv' := [(0, _), (1, _), (2, _), (3, _)]) rfl ?_
          refine w_aload_n F dX8_settles_29 rfl rfl ?_
          refine w_iload_n F dX8_settles_30 rfl ?_
          refine w_callV F (As := [_]) (ct_aboveOf hE hm g2 (x := (f.1 : Int)) (by constructor <;> omega)) (lw_V q852 q854 qs40 q88 q855) md_X8_aboveOf (by omega) cell_mdO rfl rfl rfl rfl (Nat.le_of_ble_eq_true rfl) dX8_settles_31 ⟨by omega, by omega⟩ ⟨by omega, by omega⟩ ?_
          rintro _ _ ⟨rfl, rfl⟩
          refine w_istore_n F dX8_settles_34 (by decide) rfl (lv' := [(0, _), (1, _), (2, _), (3, _)]) rfl ?_
          refine w_goto F (tgt := 9) dX8_settles_35 (by decide) ?_
          have e9 : abv (g2 0) f.1 24 = abv (γ 0) f.1 24 := by
            have : ∀ n, abv (g2 0) f.1 n = abv (γ 0) f.1 n := by
              intro n
              induction n with
              | zero => rfl
              | succ n ih2 => unfold abv; rw [ih2, o3.f 6 rfl, o3.f 7 rfl]
            exact this 24
          rw [e9]
          refine ih (fill f tc) f.1 n1 (some (fill f tc, f.1, r)) g2 f1 h2.2 hp3 h4 h5 ?_ (fun q hq => by cases hq; exact ⟨n1, f1, h2.2, hp3, h4, h5⟩) o3
          rw [← h6]
          show _ = Option.or (match sett r (fill f tc) with | some q => some q | none => if leansB (fill f tc) = true then some (fill f tc, f.1, r) else none) bst
          cases sett r (fill f tc) with
          | some q => rfl
          | none => simp [h9]
  exact loop ctx t x ns none γ hr hc (List.Perm.refl _) rfl rfl (by simp) (by simp) Off0.rf
end M6
