/-! State: gather, build -/
abbrev offG : Nat → Nat → Prop := fun f _ => f = 1 ∨ f = 8 ∨ f = 9 ∨ f = 10 ∨ f = 11
theorem JC.gat {T : Nat → Nat → Int} {k j : Nat} {γ g : GG} (h : JC T (γ (2 + k)) j) (o : OffS k offG γ g) : JC T (g (2 + k)) j := h.cg (fun f h1 h2 => o.s (fun q => by unfold offG at q; omega))
theorem RC.gat {T : Nat → Nat → Int} {k x : Nat} {t : TT} {S : Nat → Bool} {ns : List Nat} {γ g : GG} (h : RC T (γ (2 + k)) t x S ns) (o : OffS k offG γ g) : RC T (g (2 + k)) t x S ns := h.cg (fun z _ f h1 h2 => o.s (fun q => by unfold offG at q; omega))
section S4
variable {l : Launch} {E : EE}
theorem ct_gather (hE : EOk E) {k : Nat} (hk : k < 13) {T : Nat → Nat → Int} : ∀ (t : TT) (x : Nat) (S : Nat → Bool) (ns us : List Nat) (Lr Lh : List Int) (γ : GG), RC T (γ (2 + k)) t x S ns → ns.Nodup → (tl t).Nodup → (∀ i ∈ tl t, i < 12) → UsC (γ (2 + k)) us → (∀ z ∈ ns, z ∈ us) → HL (γ (2 + k) 9) Lr → γ (2 + k) 8 0 = (Lr.length : Int) → HL (γ (2 + k) 11) Lh → γ (2 + k) 10 0 = (Lh.length : Int) → Lr.length + (tl t).length ≤ 12 → Lh.length + (hf (rkT T) t S).length ≤ 12 → Ct l yX1_gather cX1_gather 2 none E (200 + nn t) (20000 + 40 * nn t) [.ref (E.ad (11 + 31 * k)), .ref (E.ad (19 + 31 * k + x))] γ (fun r g => r = none ∧ HL (g (2 + k) 9) (Lr ++ nzs (tl t)) ∧ g (2 + k) 8 0 = ((Lr.length + (tl t).length : Nat) : Int) ∧ HL (g (2 + k) 11) (Lh ++ hf (rkT T) t S) ∧ g (2 + k) 10 0 = ((Lh.length + (hf (rkT T) t S).length : Nat) : Int) ∧ UsC (g (2 + k)) (rmv us ns) ∧ OffS k offG γ g) 0 0 := by
  intro t
  induction t with
  | leaf q =>
    intro x S ns us Lr Lh γ hr hn hN hJ hu hus hR9 hR8 hR11 hR10 hl1 hl2
    refine Ct.of hE (by decide) (Nat.le_of_ble_eq_true rfl) (fun Φ hLn hΦ F hfr hlo => ?_)
    subst hLn; subst hΦ
    have h414 := F.ok.1.2.2
    have hrc := F.rc
    have hrs := F.rs
    show Wg Φ 2 _ 0 0 0 [(0, _), (1, _)] []
    refine w_rng (fun hR => ?_)
    have hx := hr.lt
    obtain ⟨e, h1, h2, h3, h4, h5, h6, h7⟩ := id hr
    have hq := hJ q (by simp [tl])
    have hbr : -4 ≤ bst (rkT T) S [q] ∧ bst (rkT T) S [q] < 12 := by
      rcases (bst_spec (rkT T) S [q]).in with w | ⟨i, w, w1⟩
      · omega
      · have : i = q := by simpa using w1.1
        omega
    have hlr : Lr.length + 1 ≤ 12 := by simpa [tl] using hl1
    have mid : ∀ (g : GG), OffS k offG γ g → g (2 + k) 1 = γ (2 + k) 1 → g (2 + k) 8 = γ (2 + k) 8 → g (2 + k) 9 = γ (2 + k) 9 → HL (g (2 + k) 11) (Lh ++ hf (rkT T) (.leaf q) S) → g (2 + k) 10 0 = ((Lh.length + (hf (rkT T) (.leaf q) S).length : Nat) : Int) → Wg Φ 2 g 0 0 33 [(0, .ref (Φ.E.ad (11 + 31 * k))), (1, .ref (Φ.E.ad (19 + 31 * k + x)))] [] := by
      intro g og g1 g8 g9 g11 g10
      obtain ⟨b, u1, u2, u3, u4⟩ := id hu
      refine w_aload_n F dX1_gather_33 rfl rfl ?_
      refine w_callV F (As := []) (ct_isLeafN hE g hk hx) (lw_V q422 q423 q424 q72 q425) md_X2_isLeaf (by omega) (cell_nd (by omega) (by omega)) rfl rfl rfl rfl (Nat.le_of_ble_eq_true rfl) dX1_gather_34 ⟨by omega, by omega⟩ ⟨by omega, by omega⟩ ?_
      rintro _ _ ⟨rfl, rfl⟩
      refine w_if_eq F (tgt := 67) dX1_gather_37 (by decide) (b2i_R _) (fun h => ?_) (fun h => ?_)
      · rw [b2i_0] at h
        have := (hr.gat og).cg (σ' := g (2 + k)) (fun z _ f _ _ => rfl)
        have := this.2.2.1
        omega
      · refine w_aload_n F dX1_gather_40 rfl rfl ?_
        refine w_get F (by omega) (cell_stO (by omega)) rfl in_X1 9 (by decide) (Or.inl q163) rfl dX1_gather_41 ?_
        refine w_aload_n F dX1_gather_44 rfl rfl ?_
        refine w_getF F (fS8 _ (by omega)) (by omega) rfl in_X1 (by decide) (Or.inl q162) dX1_gather_45 ?_
        refine w_top (z' := (Lr.length : Int)) (by rw [g8]; exact hR8) ?_
        refine w_aload_n F dX1_gather_48 rfl rfl ?_
        refine w_getF F (fN4 _ (by omega) (by omega)) (by omega) rfl in_X2 (by decide) (Or.inr q125) dX1_gather_49 ?_
        refine w_top (z' := (q : Int)) (by rw [og.s (by unfold offG; omega)]; exact h5) ?_
        refine w_i2b F dX1_gather_52 (by omega) (by omega) ?_
        first | refine w_bastN F (aS9 _ (by omega)) (by omega) (by decide) (isP_n rfl) (by constructor <;> omega) (by omega) dX1_gather_53 ?_ | refine w_bast F (aS9 _ (by omega)) (by omega) (by decide) (isP_n rfl) (by constructor <;> omega) (by omega) (by omega) dX1_gather_53 ?_
        refine w_aload_n F dX1_gather_54 rfl rfl ?_
        refine w_dup F dX1_gather_55 rfl ?_
        refine w_getF F (fS8 _ (by omega)) (by omega) rfl in_X1 (by decide) (Or.inl q162) dX1_gather_56 ?_
        refine w_top (z' := (Lr.length : Int)) (by rw [gu_f (by decide), g8]; exact hR8) ?_
        refine w_iconst F dX1_gather_59 ?_
        refine w_iadd F dX1_gather_60 ?_
        refine w_putF F (fS8 _ (by omega)) (by omega) rfl in_X1 tyX1 tyX1_ok nmX1 (by decide) (Or.inl q162) rfl rfl rfl (by first | assumption | exact inR0 | exact (hR _ _ _).1 | (constructor <;> omega)) (noB rfl) (noP rfl) dX1_gather_61 ?_
        refine w_goto F (tgt := 83) dX1_gather_64 (by decide) ?_
        refine w_aload_n F dX1_gather_83 rfl rfl ?_
        refine w_aload_n F dX1_gather_84 rfl rfl ?_
        obtain ⟨g2, hg2⟩ : ∃ z, z = gu (gu g (2 + k) 9 Lr.length (q : Int)) (2 + k) 8 0 ((Lr.length : Int) + 1) := ⟨_, rfl⟩
        have og2 : OffS k offG γ g2 := by rw [hg2]; exact (og.up (by unfold offG; omega)).up (by unfold offG; omega)
        rw [← hg2]
        refine w_callV F (As := [_]) (ct_release hE g2 hk hx (b := b) (by rw [hg2, gu_f (by decide), gu_f (by decide), g1]; exact u1)) (lw_V q516 q518 qs14 q71 q519) md_X1_release (by omega) (cell_stO (by omega)) rfl rfl rfl rfl (Nat.le_of_ble_eq_true rfl) dX1_gather_85 ⟨by omega, by omega⟩ ⟨by omega, by omega⟩ ?_
        rintro _ _ ⟨rfl, rfl⟩
        have e9 : HL (gu g2 (2 + k) 1 0 ((b ^^^ (b &&& 2 ^ x) : Nat) : Int) (2 + k) 9) (Lr ++ nzs (tl (.leaf q))) := by
          rw [gu_f (by decide), hg2, gu_f (by decide)]
          exact HL.sn (by rw [g9]; exact hR9) rfl
        have e8 : gu g2 (2 + k) 1 0 ((b ^^^ (b &&& 2 ^ x) : Nat) : Int) (2 + k) 8 0 = ((Lr.length + (tl (.leaf q)).length : Nat) : Int) := by
          rw [gu_f (by decide), hg2, gu_s]
          simp [tl]
        have eu : UsC (gu g2 (2 + k) 1 0 ((b ^^^ (b &&& 2 ^ x) : Nat) : Int) (2 + k)) (rmv us ns) := hu.give u1 (gu_s _ _ _ _ _) (rmv_nd u3) (fun z => by rw [rmv_mem, e]; simp)
        exact w_vret F (by omega) (by omega) (⟨rfl, e9, e8, by rw [gu_f (by decide), hg2, gu_f (by decide), gu_f (by decide)]; exact g11, by rw [gu_f (by decide), hg2, gu_f (by decide), gu_f (by decide)]; exact g10, eu, og2.up (by unfold offG; omega)⟩) dX1_gather_88
    refine w_aload_n F dX1_gather_0 rfl rfl ?_
    refine w_getF F (fN5 _ (by omega) (by omega)) (by omega) rfl in_X2 (by decide) (Or.inr q128) dX1_gather_1 ?_
    refine w_top h7 ?_
    refine w_bipush F dX1_gather_4 rfl ?_
    refine w_icmp_eq F (tgt := 33) dX1_gather_6 (by decide) (by first | assumption | exact inR0 | exact (hR _ _ _).1 | (constructor <;> omega)) (by first | assumption | exact inR0 | exact (hR _ _ _).1 | (constructor <;> omega)) (fun h => ?_) (fun h => ?_)
    · rw [hf_leaf, if_pos h] at mid
      exact mid γ OffS.rf rfl rfl rfl (by simpa using hR11) (by simpa using hR10)
    · rw [hf_leaf, if_neg h] at mid hl2
      simp at hl2
      refine w_aload_n F dX1_gather_9 rfl rfl ?_
      refine w_get F (by omega) (cell_stO (by omega)) rfl in_X1 11 (by decide) (Or.inl q165) rfl dX1_gather_10 ?_
      refine w_aload_n F dX1_gather_13 rfl rfl ?_
      refine w_getF F (fS10 _ (by omega)) (by omega) rfl in_X1 (by decide) (Or.inl q164) dX1_gather_14 ?_
      refine w_top hR10 ?_
      refine w_aload_n F dX1_gather_17 rfl rfl ?_
      refine w_getF F (fN5 _ (by omega) (by omega)) (by omega) rfl in_X2 (by decide) (Or.inr q128) dX1_gather_18 ?_
      refine w_top h7 ?_
      refine w_i2b F dX1_gather_21 (by omega) (by omega) ?_
      first | refine w_bastN F (aS11 _ (by omega)) (by omega) (by decide) (isP_n rfl) (by constructor <;> omega) (by omega) dX1_gather_22 ?_ | refine w_bast F (aS11 _ (by omega)) (by omega) (by decide) (isP_n rfl) (by constructor <;> omega) (by omega) (by omega) dX1_gather_22 ?_
      refine w_aload_n F dX1_gather_23 rfl rfl ?_
      refine w_dup F dX1_gather_24 rfl ?_
      refine w_getF F (fS10 _ (by omega)) (by omega) rfl in_X1 (by decide) (Or.inl q164) dX1_gather_25 ?_
      refine w_top (z' := (Lh.length : Int)) (by rw [gu_f (by decide)]; exact hR10) ?_
      refine w_iconst F dX1_gather_28 ?_
      refine w_iadd F dX1_gather_29 ?_
      refine w_putF F (fS10 _ (by omega)) (by omega) rfl in_X1 tyX1 tyX1_ok nmX1 (by decide) (Or.inl q164) rfl rfl rfl (by first | assumption | exact inR0 | exact (hR _ _ _).1 | (constructor <;> omega)) (noB rfl) (noP rfl) dX1_gather_30 ?_
      refine mid _ ((OffS.rf.up (by unfold offG; omega)).up (by unfold offG; omega)) (by rw [gu_f (by decide), gu_f (by decide)]) (by rw [gu_f (by decide), gu_f (by decide)]) (by rw [gu_f (by decide), gu_f (by decide)]) ?_ (by rw [gu_s]; simp)
      rw [gu_f (by decide)]
      exact hR11.sn rfl
  | branch s a b iha ihb =>
    intro x S ns us Lr Lh γ hr hn hN hJ hu hus hR9 hR8 hR11 hR10 hl1 hl2
    refine Ct.of hE (by decide) (Nat.le_of_ble_eq_true rfl) (fun Φ hLn hΦ F hfr hlo => ?_)
    subst hLn; subst hΦ
    have h414 := F.ok.1.2.2
    have hrc := F.rc
    have hrs := F.rs
    show Wg Φ 2 _ 0 0 0 [(0, _), (1, _)] []
    refine w_rng (fun hR => ?_)
    have hx := hr.lt
    obtain ⟨xa, xb, na, nb, e, h1, h2, h3, h4, h5, h6, h7, h8⟩ := id hr
    have hxa := h7.lt
    have hxb := h8.lt
    have hN' := List.nodup_append.mp hN
    have hn1 := List.nodup_cons.mp (e ▸ hn)
    have hn2 := List.nodup_append.mp hn1.2
    have hnn : nn (.branch s a b) = 1 + nn a + nn b := rfl
    have hll : (tl (.branch s a b)).length = (tl a).length + (tl b).length := by simp [tl]
    have hbr : -4 ≤ bst (rkT T) S (tl a ++ tl b) ∧ bst (rkT T) S (tl a ++ tl b) < 12 := by
      rcases (bst_spec (rkT T) S (tl a ++ tl b)).in with w | ⟨i, w, w1⟩
      · omega
      · have := hJ i w1.1
        omega
    obtain ⟨hd, hhd⟩ : ∃ z : List Int, z = (if bst (rkT T) S (tl a ++ tl b) = -4 then [] else [bst (rkT T) S (tl a ++ tl b)]) := ⟨_, rfl⟩
    obtain ⟨S', hS'⟩ : ∃ z, z = wo S (bst (rkT T) S (tl a ++ tl b)) := ⟨_, rfl⟩
    have hf3 := hf_br (rkT T) s a b S
    rw [← hhd, ← hS'] at hf3
    rw [← hS'] at h7 h8
    have hl3 : Lh.length + (hd.length + ((hf (rkT T) a S').length + (hf (rkT T) b S').length)) ≤ 12 := by rw [hf3] at hl2; simpa using hl2
    have mid : ∀ (g : GG), OffS k offG γ g → g (2 + k) 1 = γ (2 + k) 1 → g (2 + k) 8 = γ (2 + k) 8 → g (2 + k) 9 = γ (2 + k) 9 → HL (g (2 + k) 11) (Lh ++ hd) → g (2 + k) 10 0 = ((Lh.length + hd.length : Nat) : Int) → Wg Φ 2 g 0 0 33 [(0, .ref (Φ.E.ad (11 + 31 * k))), (1, .ref (Φ.E.ad (19 + 31 * k + x)))] [] := by
      intro g og g1 g8 g9 g11 g10
      refine w_aload_n F dX1_gather_33 rfl rfl ?_
      refine w_callV F (As := []) (ct_isLeafN hE g hk hx) (lw_V q422 q423 q424 q72 q425) md_X2_isLeaf (by omega) (cell_nd (by omega) (by omega)) rfl rfl rfl rfl (Nat.le_of_ble_eq_true rfl) dX1_gather_34 ⟨by omega, by omega⟩ ⟨by omega, by omega⟩ ?_
      rintro _ _ ⟨rfl, rfl⟩
      refine w_if_eq F (tgt := 67) dX1_gather_37 (by decide) (b2i_R _) (fun h => ?_) (fun h => ?_)
      · refine w_aload_n F dX1_gather_67 rfl rfl ?_
        refine w_aload_n F dX1_gather_68 rfl rfl ?_
        refine w_getF F (fN1 _ (by omega) (by omega)) (by omega) rfl in_X2 (by decide) (Or.inr q116) dX1_gather_69 ?_
        refine w_toN (j := xa) (by rw [og.s (by unfold offG; omega)]; exact h2) ?_
        refine w_callV F (As := [_]) (iha xa S' na us Lr (Lh ++ hd) g (h7.gat og) hn2.1 hN'.1 (fun i hi => hJ i (List.mem_append_left _ hi)) (hu.cg (by rw [g1]) (by obtain ⟨_, _, _, q, _⟩ := id hu; exact q) (fun z => Iff.rfl)) (fun z hz => hus z (by rw [e]; exact List.mem_cons_of_mem _ (List.mem_append_left _ hz))) (by rw [g9]; exact hR9) (by rw [g8]; exact hR8) g11 (by rw [g10]; simp only [List.length_append]) (by omega) (by simp only [List.length_append]; omega)) (lw_V q512 q514 qs13 q71 q515) md_X1_gather (by omega) (cell_stO (by omega)) rfl rfl rfl rfl (Nat.le_of_ble_eq_true rfl) dX1_gather_72 ⟨by omega, by omega⟩ ⟨by omega, by omega⟩ ?_
        rintro _ g2 ⟨rfl, b9, b8, b11, b10, bu, og2⟩
        have ogg := og.tr og2
        refine w_aload_n F dX1_gather_75 rfl rfl ?_
        refine w_aload_n F dX1_gather_76 rfl rfl ?_
        refine w_getF F (fN2 _ (by omega) (by omega)) (by omega) rfl in_X2 (by decide) (Or.inr q118) dX1_gather_77 ?_
        refine w_toN (j := xb) (by rw [ogg.s (by unfold offG; omega)]; exact h3) ?_
        refine w_callV F (As := [_]) (ihb xb S' nb (rmv us na) (Lr ++ nzs (tl a)) (Lh ++ hd ++ hf (rkT T) a S') g2 (h8.gat ogg) hn2.2.1 hN'.2.1 (fun i hi => hJ i (List.mem_append_right _ hi)) bu (fun z hz => rmv_mem.mpr ⟨hus z (by rw [e]; exact List.mem_cons_of_mem _ (List.mem_append_right _ hz)), fun q => hn2.2.2 z q z hz rfl⟩) b9 (by rw [b8]; simp [nzs]) b11 (by rw [b10]; simp only [List.length_append]) (by simp [nzs]; omega) (by simp only [List.length_append]; omega)) (lw_V q512 q514 qs13 q71 q515) md_X1_gather (by omega) (cell_stO (by omega)) rfl rfl rfl rfl (Nat.le_of_ble_eq_true rfl) dX1_gather_80 ⟨by omega, by omega⟩ ⟨by omega, by omega⟩ ?_
        rintro _ g3 ⟨rfl, c9, c8, c11, c10, cu, og3⟩
        have oggg := ogg.tr og3
        obtain ⟨b', u1, u2, u3, u4⟩ := id cu
        refine w_aload_n F dX1_gather_83 rfl rfl ?_
        refine w_aload_n F dX1_gather_84 rfl rfl ?_
        refine w_callV F (As := [_]) (ct_release hE g3 hk hx u1) (lw_V q516 q518 qs14 q71 q519) md_X1_release (by omega) (cell_stO (by omega)) rfl rfl rfl rfl (Nat.le_of_ble_eq_true rfl) dX1_gather_85 ⟨by omega, by omega⟩ ⟨by omega, by omega⟩ ?_
        rintro _ _ ⟨rfl, rfl⟩
        have f9 : HL (gu g3 (2 + k) 1 0 ((b' ^^^ (b' &&& 2 ^ x) : Nat) : Int) (2 + k) 9) (Lr ++ nzs (tl (.branch s a b))) := by
          rw [gu_f (by decide)]
          rw [List.append_assoc] at c9
          have : nzs (tl (.branch s a b)) = nzs (tl a) ++ nzs (tl b) := by simp [nzs, tl]
          rw [this]
          exact c9
        have f8 : gu g3 (2 + k) 1 0 ((b' ^^^ (b' &&& 2 ^ x) : Nat) : Int) (2 + k) 8 0 = ((Lr.length + (tl (.branch s a b)).length : Nat) : Int) := by
          rw [gu_f (by decide), c8]
          simp [tl]
          omega
        have f11 : HL (gu g3 (2 + k) 1 0 ((b' ^^^ (b' &&& 2 ^ x) : Nat) : Int) (2 + k) 11) (Lh ++ hf (rkT T) (.branch s a b) S) := by
          rw [gu_f (by decide), hf3]
          rw [List.append_assoc, List.append_assoc] at c11
          exact c11
        have f10 : gu g3 (2 + k) 1 0 ((b' ^^^ (b' &&& 2 ^ x) : Nat) : Int) (2 + k) 10 0 = ((Lh.length + (hf (rkT T) (.branch s a b) S).length : Nat) : Int) := by
          rw [gu_f (by decide), c10, hf3]
          simp
          omega
        have fu : UsC (gu g3 (2 + k) 1 0 ((b' ^^^ (b' &&& 2 ^ x) : Nat) : Int) (2 + k)) (rmv us ns) := by
          obtain ⟨_, _, _, un, _⟩ := id hu
          refine cu.give u1 (gu_s _ _ _ _ _) (rmv_nd un) (fun z => ?_)
          rw [rmv_mem, rmv_mem, rmv_mem, e]
          simp
          constructor
          · rintro ⟨q1, q2, q3, q4⟩
            exact ⟨⟨⟨q1, q3⟩, q4⟩, q2⟩
          · rintro ⟨⟨⟨q1, q3⟩, q4⟩, q2⟩
            exact ⟨q1, q2, q3, q4⟩
        exact w_vret F (by omega) (by omega) (⟨rfl, f9, f8, f11, f10, fu, oggg.up (by unfold offG; omega)⟩) dX1_gather_88
      · rw [b2i_n0] at h
        have : g (2 + k) 21 x = (xa : Int) := by rw [og.s (by unfold offG; omega)]; exact h2
        omega
    refine w_aload_n F dX1_gather_0 rfl rfl ?_
    refine w_getF F (fN5 _ (by omega) (by omega)) (by omega) rfl in_X2 (by decide) (Or.inr q128) dX1_gather_1 ?_
    refine w_top h6 ?_
    refine w_bipush F dX1_gather_4 rfl ?_
    refine w_icmp_eq F (tgt := 33) dX1_gather_6 (by decide) (by first | assumption | exact inR0 | exact (hR _ _ _).1 | (constructor <;> omega)) (by first | assumption | exact inR0 | exact (hR _ _ _).1 | (constructor <;> omega)) (fun h => ?_) (fun h => ?_)
    · rw [if_pos h] at hhd
      subst hhd
      exact mid γ OffS.rf rfl rfl rfl (by simpa using hR11) (by simpa using hR10)
    · rw [if_neg h] at hhd
      subst hhd
      simp at hl3
      refine w_aload_n F dX1_gather_9 rfl rfl ?_
      refine w_get F (by omega) (cell_stO (by omega)) rfl in_X1 11 (by decide) (Or.inl q165) rfl dX1_gather_10 ?_
      refine w_aload_n F dX1_gather_13 rfl rfl ?_
      refine w_getF F (fS10 _ (by omega)) (by omega) rfl in_X1 (by decide) (Or.inl q164) dX1_gather_14 ?_
      refine w_top hR10 ?_
      refine w_aload_n F dX1_gather_17 rfl rfl ?_
      refine w_getF F (fN5 _ (by omega) (by omega)) (by omega) rfl in_X2 (by decide) (Or.inr q128) dX1_gather_18 ?_
      refine w_top h6 ?_
      refine w_i2b F dX1_gather_21 (by omega) (by omega) ?_
      first | refine w_bastN F (aS11 _ (by omega)) (by omega) (by decide) (isP_n rfl) (by constructor <;> omega) (by omega) dX1_gather_22 ?_ | refine w_bast F (aS11 _ (by omega)) (by omega) (by decide) (isP_n rfl) (by constructor <;> omega) (by omega) (by omega) dX1_gather_22 ?_
      refine w_aload_n F dX1_gather_23 rfl rfl ?_
      refine w_dup F dX1_gather_24 rfl ?_
      refine w_getF F (fS10 _ (by omega)) (by omega) rfl in_X1 (by decide) (Or.inl q164) dX1_gather_25 ?_
      refine w_top (z' := (Lh.length : Int)) (by rw [gu_f (by decide)]; exact hR10) ?_
      refine w_iconst F dX1_gather_28 ?_
      refine w_iadd F dX1_gather_29 ?_
      refine w_putF F (fS10 _ (by omega)) (by omega) rfl in_X1 tyX1 tyX1_ok nmX1 (by decide) (Or.inl q164) rfl rfl rfl (by first | assumption | exact inR0 | exact (hR _ _ _).1 | (constructor <;> omega)) (noB rfl) (noP rfl) dX1_gather_30 ?_
      refine mid _ ((OffS.rf.up (by unfold offG; omega)).up (by unfold offG; omega)) (by rw [gu_f (by decide), gu_f (by decide)]) (by rw [gu_f (by decide), gu_f (by decide)]) (by rw [gu_f (by decide), gu_f (by decide)]) ?_ (by rw [gu_s]; simp)
      rw [gu_f (by decide)]
      exact hR11.sn rfl
end S4
