/-! State: pull, holder, vacate -/
section S3
variable {l : Launch} {E : EE}
theorem ct_pull (hE : EOk E) (hA : AhOk l E) (hH : HoOk l E) {k : Nat} (hk : k < 13) {T : Nat → Nat → Int} : ∀ (t : TT) (x : Nat) (S : Nat → Bool) (ns : List Nat) (γ : GG), PC T (γ (2 + k)) t x S ns → ns.Nodup → (tl t).Nodup → (∀ i ∈ tl t, JC T (γ (2 + k)) i) → Ct l yX1_pull cX1_pull 6 none E (600 + nn t) (36000 + 40 * nn t) [.ref (E.ad (11 + 31 * k)), .ref (E.ad (19 + 31 * k + x))] γ (fun r g => r = none ∧ RC T (g (2 + k)) t x S ns ∧ OffS k (fun f i => f = 25 ∧ i ∈ ns) γ g) 2 32 := by
  intro t
  induction t with
  | leaf q =>
    intro x S ns γ hp hn hN hJ
    refine Ct.of hE (by decide) (Nat.le_of_ble_eq_true rfl) (fun Φ hLn hΦ F hfr hlo => ?_)
    subst hLn; subst hΦ
    have h414 := F.ok.1.2.2
    have hrc := F.rc
    have hrs := F.rs
    show Wg Φ 6 _ 0 0 0 [(0, _), (1, _)] []
    refine w_rng (fun hR => ?_)
    obtain ⟨e, h1, h2, h3, h4, h5, h6, h7, h8⟩ := hp
    refine w_aload_n F dX1_pull_0 rfl rfl ?_
    refine w_getF F (fN1 _ (by omega) (by omega)) (by omega) rfl in_X2 (by decide) (Or.inr q116) dX1_pull_1 ?_
    refine w_toNull (by omega) ?_
    refine hH.2 Φ _ _ _ _ _ _ _ _ _ _ _ _ _ _ rfl rfl F q678 (Nat.le_of_ble_eq_true rfl) dX1_pull_4 ⟨by omega, by omega⟩ ⟨by omega, by omega⟩ ?_
    refine w_istore_n F dX1_pull_7 (by decide) rfl (lv' := [(0, _), (1, _), (2, _)]) rfl ?_
    refine w_aload_n F dX1_pull_8 rfl rfl ?_
    refine w_getF F (fN2 _ (by omega) (by omega)) (by omega) rfl in_X2 (by decide) (Or.inr q118) dX1_pull_9 ?_
    refine w_toNull (by omega) ?_
    refine hH.2 Φ _ _ _ _ _ _ _ _ _ _ _ _ _ _ rfl rfl F q678 (Nat.le_of_ble_eq_true rfl) dX1_pull_12 ⟨by omega, by omega⟩ ⟨by omega, by omega⟩ ?_
    refine w_istore_n F dX1_pull_15 (by decide) rfl (lv' := [(0, _), (1, _), (2, _), (3, _)]) rfl ?_
    refine w_iload_n F dX1_pull_16 rfl ?_
    refine w_bipush F dX1_pull_17 rfl ?_
    refine w_icmp_ne F (tgt := 29) dX1_pull_19 (by decide) (by first | assumption | exact inR0 | exact (hR _ _ _).1 | (constructor <;> omega)) (by first | assumption | exact inR0 | exact (hR _ _ _).1 | (constructor <;> omega)) (fun h => ?_) (fun h => ?_)
    · omega
    · refine w_iload_n F dX1_pull_22 rfl ?_
      refine w_bipush F dX1_pull_23 rfl ?_
      refine w_icmp_ne F (tgt := 29) dX1_pull_25 (by decide) (by first | assumption | exact inR0 | exact (hR _ _ _).1 | (constructor <;> omega)) (by first | assumption | exact inR0 | exact (hR _ _ _).1 | (constructor <;> omega)) (fun h9 => ?_) (fun h9 => ?_)
      · omega
      · have hb : bst (rkT T) S [q] = -4 := by
          rcases (bst_spec (rkT T) S [q]).in with w | ⟨i, _, w1, w2⟩
          · exact w
          · have : i = q := by simpa using w1
            rw [this, h8] at w2
            cases w2
        exact w_vret F (by omega) (by omega) (⟨rfl, ⟨e, h1, h2, h3, h4, h5, h6, by rw [hb]; exact h7⟩, OffS.rf⟩) dX1_pull_28
  | branch s a b iha ihb =>
    intro x S ns γ hp hn hN hJ
    refine Ct.of hE (by decide) (Nat.le_of_ble_eq_true rfl) (fun Φ hLn hΦ F hfr hlo => ?_)
    subst hLn; subst hΦ
    have h414 := F.ok.1.2.2
    have hrc := F.rc
    have hrs := F.rs
    show Wg Φ 6 _ 0 0 0 [(0, _), (1, _)] []
    refine w_rng (fun hR => ?_)
    obtain ⟨xa, xb, na, nb, e, h1, h2, h3, h4, h5, h6, h7, h8⟩ := id hp
    have hN' := List.nodup_append.mp hN
    have hxa := h7.lt
    have hxb := h8.lt
    have hn1 := List.nodup_cons.mp (e ▸ hn)
    have hn2 := List.nodup_append.mp hn1.2
    have hnn : nn (.branch s a b) = 1 + nn a + nn b := rfl
    have hd : ∀ j ∈ tl a, j ∉ tl b := fun j q1 q2 => hN'.2.2 j q1 j q2 rfl
    have htw := bst_two (R := rkT T) (S := S) (A := tl a) (B := tl b) rfl rfl hd
    have hho := h7.hold
    have hhb := h8.hold
    obtain ⟨u, hu⟩ : ∃ u, u = bst (rkT T) S (tl a) := ⟨_, rfl⟩
    obtain ⟨v, hv⟩ : ∃ v, v = bst (rkT T) S (tl b) := ⟨_, rfl⟩
    rw [← hu] at hho htw
    rw [← hv] at hhb htw
    have ru : -4 ≤ u ∧ u < 12 := by
      rcases (hu ▸ bst_spec (rkT T) S (tl a)).in with w | ⟨i, w, w1⟩
      · omega
      · have := (hJ i (List.mem_append_left _ w1.1)).1; omega
    have rv : -4 ≤ v ∧ v < 12 := by
      rcases (hv ▸ bst_spec (rkT T) S (tl b)).in with w | ⟨i, w, w1⟩
      · omega
      · have := (hJ i (List.mem_append_right _ w1.1)).1; omega
    have left : u ≠ -4 → bst (rkT T) S (tl a ++ tl b) = u → Wg Φ 6 γ 0 0 50 [(0, .ref (Φ.E.ad (11 + 31 * k))), (1, .ref (Φ.E.ad (19 + 31 * k + x))), (2, .int (iI u)), (3, .int (iI v))] [] := by
      intro hu0 hb
      obtain ⟨i, w0, w1, w2⟩ := bst_nat (R := rkT T) (S := S) (L := tl a) (by rw [← hu]; exact hu0)
      refine w_iconst F dX1_pull_50 ?_
      refine w_goto F (tgt := 55) dX1_pull_51 (by decide) ?_
      refine w_istore F dX1_pull_55 (by decide) rfl (lv' := [(0, _), (1, _), (2, _), (3, _), (4, _)]) rfl ?_
      refine w_iload F dX1_pull_57 rfl ?_
      refine w_if_eq F (tgt := 69) dX1_pull_59 (by decide) (by first | assumption | exact inR0 | exact (hR _ _ _).1 | (constructor <;> omega)) (fun h => ?_) (fun h => ?_)
      · omega
      · refine w_aload_n F dX1_pull_62 rfl rfl ?_
        refine w_getF F (fN1 _ (by omega) (by omega)) (by omega) rfl in_X2 (by decide) (Or.inr q116) dX1_pull_63 ?_
        refine w_goto F (tgt := 73) dX1_pull_66 (by decide) ?_
        refine w_toN h2 ?_
        refine w_astore F dX1_pull_73 (by decide) rfl (lv' := [(0, _), (1, _), (2, _), (3, _), (4, _), (5, _)]) rfl rfl ?_
        refine w_aload_n F dX1_pull_75 rfl rfl ?_
        refine w_aload F dX1_pull_76 rfl rfl ?_
        refine w_getF F (fN5 _ (by omega) (by omega)) (by omega) rfl in_X2 (by decide) (Or.inr q128) dX1_pull_78 ?_
        refine w_top hho ?_
        refine w_putF F (fN5 _ (by omega) (by omega)) (by omega) rfl in_X2 tyX2 tyX2_ok nmX2 (by decide) (Or.inr q128) rfl rfl rfl (by first | assumption | exact inR0 | exact (hR _ _ _).1 | (constructor <;> omega)) (noB rfl) (noP rfl) dX1_pull_81 ?_
        refine w_aload F dX1_pull_84 rfl rfl ?_
        refine w_bipush F dX1_pull_86 rfl ?_
        refine w_putF F (fN5 _ (by omega) (by omega)) (by omega) rfl in_X2 tyX2 tyX2_ok nmX2 (by decide) (Or.inr q128) rfl rfl rfl (by first | assumption | exact inR0 | exact (hR _ _ _).1 | (constructor <;> omega)) (noB rfl) (noP rfl) dX1_pull_88 ?_
        refine w_aload_n F dX1_pull_91 rfl rfl ?_
        refine w_aload F dX1_pull_92 rfl rfl ?_
        obtain ⟨g1, hg1⟩ : ∃ g, g = gu γ (2 + k) 25 x u := ⟨_, rfl⟩
        have of1 : OffS k (fun f z => f = 25 ∧ z = x) γ g1 := by rw [hg1]; exact OffS.rf.up ⟨rfl, rfl⟩
        rw [← hg1]
        have r1 : RC T (g1 (2 + k)) a xa S na := h7.cg (fun z hz f _ _ => of1.s (fun q => hn1.1 (by rw [← q.2]; exact List.mem_append_left _ hz)))
        obtain ⟨g2, hg2⟩ : ∃ g, g = gu g1 (2 + k) 25 xa (-4) := ⟨_, rfl⟩
        have of2 : OffS k (fun f z => f = 25 ∧ z = xa) g1 g2 := by rw [hg2]; exact OffS.rf.up ⟨rfl, rfl⟩
        rw [← hg2]
        have p2 := r1.vac (σ' := g2 (2 + k)) hn2.1 (by rw [hg2]; exact gu_s _ _ _ _ _) (fun f z q => of2.s q)
        rw [← hu] at p2
        have hxn : x ≠ xa := fun q => hn1.1 (by rw [q]; exact List.mem_append_left _ h7.me)
        refine w_callV F (As := [_]) (iha xa (wo S u) na g2 p2 hn2.1 hN'.1 (fun q hq => ((hJ q (List.mem_append_left _ hq)).off of1 (fun f z w => by omega)).off of2 (fun f z w => by omega))) (lw_V q674 q676 qs22 q71 q677) md_X1_pull (by omega) (cell_stO (by omega)) rfl rfl rfl rfl (Nat.le_of_ble_eq_true rfl) dX1_pull_94 ⟨by omega, by omega⟩ ⟨by omega, by omega⟩ ?_
        rintro _ g3 ⟨rfl, r3, of3⟩
        have oo : OffS k (fun f z => f = 25 ∧ (z = x ∨ z ∈ na)) γ g3 := ((of1.mono (fun f z q => ⟨q.1, Or.inl q.2⟩)).tr (of2.mono (fun f z q => ⟨q.1, Or.inr (by rw [q.2]; exact h7.me)⟩))).tr (of3.mono (fun f z q => ⟨q.1, Or.inr q.2⟩))
        have hx3 : g3 (2 + k) 25 x = u := by rw [of3.s (fun q => hn1.1 (List.mem_append_left _ q.2)), of2.s (fun q => hxn q.2), hg1]; exact gu_s _ _ _ _ _
        have hvb : ∀ q ∈ tl b, (q : Int) ≠ u := fun q hq e2 => hd i w1 ((show q = i by omega) ▸ hq)
        exact w_vret F (by omega) (by omega) (⟨rfl, RC.pullL e hn h1 h2 h3 h4 h5 h8 hb hvb hx3 (fun f z q => oo.s q) r3, oo.mono (fun f z q => ⟨q.1, by rw [e]; rcases q.2 with w | w; rw [w]; exact List.mem_cons_self; exact List.mem_cons_of_mem _ (List.mem_append_left _ w)⟩)⟩) dX1_pull_97
    have right : v ≠ -4 → bst (rkT T) S (tl a ++ tl b) = v → Wg Φ 6 γ 0 0 54 [(0, .ref (Φ.E.ad (11 + 31 * k))), (1, .ref (Φ.E.ad (19 + 31 * k + x))), (2, .int (iI u)), (3, .int (iI v))] [] := by
      intro hv0 hb
      obtain ⟨i, w0, w1, w2⟩ := bst_nat (R := rkT T) (S := S) (L := tl b) (by rw [← hv]; exact hv0)
      refine w_iconst F dX1_pull_54 ?_
      refine w_istore F dX1_pull_55 (by decide) rfl (lv' := [(0, _), (1, _), (2, _), (3, _), (4, _)]) rfl ?_
      refine w_iload F dX1_pull_57 rfl ?_
      refine w_if_eq F (tgt := 69) dX1_pull_59 (by decide) (by first | assumption | exact inR0 | exact (hR _ _ _).1 | (constructor <;> omega)) (fun h => ?_) (fun h => ?_)
      · refine w_aload_n F dX1_pull_69 rfl rfl ?_
        refine w_getF F (fN2 _ (by omega) (by omega)) (by omega) rfl in_X2 (by decide) (Or.inr q118) dX1_pull_70 ?_
        refine w_toN h3 ?_
        refine w_astore F dX1_pull_73 (by decide) rfl (lv' := [(0, _), (1, _), (2, _), (3, _), (4, _), (5, _)]) rfl rfl ?_
        refine w_aload_n F dX1_pull_75 rfl rfl ?_
        refine w_aload F dX1_pull_76 rfl rfl ?_
        refine w_getF F (fN5 _ (by omega) (by omega)) (by omega) rfl in_X2 (by decide) (Or.inr q128) dX1_pull_78 ?_
        refine w_top hhb ?_
        refine w_putF F (fN5 _ (by omega) (by omega)) (by omega) rfl in_X2 tyX2 tyX2_ok nmX2 (by decide) (Or.inr q128) rfl rfl rfl (by first | assumption | exact inR0 | exact (hR _ _ _).1 | (constructor <;> omega)) (noB rfl) (noP rfl) dX1_pull_81 ?_
        refine w_aload F dX1_pull_84 rfl rfl ?_
        refine w_bipush F dX1_pull_86 rfl ?_
        refine w_putF F (fN5 _ (by omega) (by omega)) (by omega) rfl in_X2 tyX2 tyX2_ok nmX2 (by decide) (Or.inr q128) rfl rfl rfl (by first | assumption | exact inR0 | exact (hR _ _ _).1 | (constructor <;> omega)) (noB rfl) (noP rfl) dX1_pull_88 ?_
        refine w_aload_n F dX1_pull_91 rfl rfl ?_
        refine w_aload F dX1_pull_92 rfl rfl ?_
        obtain ⟨g1, hg1⟩ : ∃ g, g = gu γ (2 + k) 25 x v := ⟨_, rfl⟩
        have of1 : OffS k (fun f z => f = 25 ∧ z = x) γ g1 := by rw [hg1]; exact OffS.rf.up ⟨rfl, rfl⟩
        rw [← hg1]
        have r1 : RC T (g1 (2 + k)) b xb S nb := h8.cg (fun z hz f _ _ => of1.s (fun q => hn1.1 (by rw [← q.2]; exact List.mem_append_right _ hz)))
        obtain ⟨g2, hg2⟩ : ∃ g, g = gu g1 (2 + k) 25 xb (-4) := ⟨_, rfl⟩
        have of2 : OffS k (fun f z => f = 25 ∧ z = xb) g1 g2 := by rw [hg2]; exact OffS.rf.up ⟨rfl, rfl⟩
        rw [← hg2]
        have p2 := r1.vac (σ' := g2 (2 + k)) hn2.2.1 (by rw [hg2]; exact gu_s _ _ _ _ _) (fun f z q => of2.s q)
        rw [← hv] at p2
        have hxn : x ≠ xb := fun q => hn1.1 (by rw [q]; exact List.mem_append_right _ h8.me)
        refine w_callV F (As := [_]) (ihb xb (wo S v) nb g2 p2 hn2.2.1 hN'.2.1 (fun q hq => ((hJ q (List.mem_append_right _ hq)).off of1 (fun f z w => by omega)).off of2 (fun f z w => by omega))) (lw_V q674 q676 qs22 q71 q677) md_X1_pull (by omega) (cell_stO (by omega)) rfl rfl rfl rfl (Nat.le_of_ble_eq_true rfl) dX1_pull_94 ⟨by omega, by omega⟩ ⟨by omega, by omega⟩ ?_
        rintro _ g3 ⟨rfl, r3, of3⟩
        have oo : OffS k (fun f z => f = 25 ∧ (z = x ∨ z ∈ nb)) γ g3 := ((of1.mono (fun f z q => ⟨q.1, Or.inl q.2⟩)).tr (of2.mono (fun f z q => ⟨q.1, Or.inr (by rw [q.2]; exact h8.me)⟩))).tr (of3.mono (fun f z q => ⟨q.1, Or.inr q.2⟩))
        have hx3 : g3 (2 + k) 25 x = v := by rw [of3.s (fun q => hn1.1 (List.mem_append_right _ q.2)), of2.s (fun q => hxn q.2), hg1]; exact gu_s _ _ _ _ _
        have hva : ∀ q ∈ tl a, (q : Int) ≠ v := fun q hq e2 => hd q hq ((show i = q by omega) ▸ w1)
        exact w_vret F (by omega) (by omega) (⟨rfl, RC.pullR e hn h1 h2 h3 h4 h5 h7 hb hva hx3 (fun f z q => oo.s q) r3, oo.mono (fun f z q => ⟨q.1, by rw [e]; rcases q.2 with w | w; rw [w]; exact List.mem_cons_self; exact List.mem_cons_of_mem _ (List.mem_append_right _ w)⟩)⟩) dX1_pull_97
      · omega
    have mid : (u ≠ -4 ∨ v ≠ -4) → Wg Φ 6 γ 0 0 29 [(0, .ref (Φ.E.ad (11 + 31 * k))), (1, .ref (Φ.E.ad (19 + 31 * k + x))), (2, .int (iI u)), (3, .int (iI v))] [] := by
      intro huv
      refine w_iload_n F dX1_pull_29 rfl ?_
      refine w_bipush F dX1_pull_30 rfl ?_
      refine w_icmp_eq F (tgt := 50) dX1_pull_32 (by decide) (by first | assumption | exact inR0 | exact (hR _ _ _).1 | (constructor <;> omega)) (by first | assumption | exact inR0 | exact (hR _ _ _).1 | (constructor <;> omega)) (fun h => ?_) (fun h => ?_)
      · exact left (by omega) (htw.2.1 h)
      · refine w_iload_n F dX1_pull_35 rfl ?_
        refine w_bipush F dX1_pull_36 rfl ?_
        refine w_icmp_eq F (tgt := 54) dX1_pull_38 (by decide) (by first | assumption | exact inR0 | exact (hR _ _ _).1 | (constructor <;> omega)) (by first | assumption | exact inR0 | exact (hR _ _ _).1 | (constructor <;> omega)) (fun h9 => ?_) (fun h9 => ?_)
        · exact right h (htw.1 h9)
        · obtain ⟨i, w0, w1, w2⟩ := bst_nat (R := rkT T) (S := S) (L := tl a) (by rw [← hu]; exact h9)
          obtain ⟨j, y0, y1, y2⟩ := bst_nat (R := rkT T) (S := S) (L := tl b) (by rw [← hv]; exact h)
          have eu : u = (i : Int) := by rw [hu]; exact w0
          have ev : v = (j : Int) := by rw [hv]; exact y0
          have ht3 := htw.2.2 h9 h
          have eb1 : u.toNat = i := by omega
          have eb2 : v.toNat = j := by omega
          rw [eb1, eb2] at ht3
          refine w_aload_n F dX1_pull_41 rfl rfl ?_
          refine w_iload_n F dX1_pull_42 rfl ?_
          refine w_top eu ?_
          refine w_iload_n F dX1_pull_43 rfl ?_
          refine w_top ev ?_
          refine w_callV F (As := [_, _]) (ct_isDueAhead hE hA γ hk (hJ i (List.mem_append_left _ w1)) (hJ j (List.mem_append_right _ y1))) (lw_V q443 q444 q445 q71 q446) md_X1_isDueAhead (by omega) (cell_stO (by omega)) rfl rfl rfl rfl (Nat.le_of_ble_eq_true rfl) dX1_pull_44 ⟨by omega, by omega⟩ ⟨by omega, by omega⟩ ?_
          rintro _ _ ⟨rfl, rfl⟩
          refine w_if_eq F (tgt := 54) dX1_pull_47 (by decide) (b2i_R _) (fun hh => ?_) (fun hh => ?_)
          · rw [b2i_0, ahd_b] at hh
            exact right h (ht3.2 hh)
          · rw [b2i_n0, ahd_b] at hh
            exact left h9 (ht3.1 hh)
    refine w_aload_n F dX1_pull_0 rfl rfl ?_
    refine w_getF F (fN1 _ (by omega) (by omega)) (by omega) rfl in_X2 (by decide) (Or.inr q116) dX1_pull_1 ?_
    refine w_toN h2 ?_
    refine hH.1 Φ _ _ _ _ _ _ _ _ _ _ _ _ _ _ k xa rfl rfl F hk hxa q678 (Nat.le_of_ble_eq_true rfl) dX1_pull_4 ⟨by omega, by omega⟩ ⟨by omega, by omega⟩ ?_
    refine w_top hho ?_
    refine w_istore_n F dX1_pull_7 (by decide) rfl (lv' := [(0, _), (1, _), (2, _)]) rfl ?_
    refine w_aload_n F dX1_pull_8 rfl rfl ?_
    refine w_getF F (fN2 _ (by omega) (by omega)) (by omega) rfl in_X2 (by decide) (Or.inr q118) dX1_pull_9 ?_
    refine w_toN h3 ?_
    refine hH.1 Φ _ _ _ _ _ _ _ _ _ _ _ _ _ _ k xb rfl rfl F hk hxb q678 (Nat.le_of_ble_eq_true rfl) dX1_pull_12 ⟨by omega, by omega⟩ ⟨by omega, by omega⟩ ?_
    refine w_top hhb ?_
    refine w_istore_n F dX1_pull_15 (by decide) rfl (lv' := [(0, _), (1, _), (2, _), (3, _)]) rfl ?_
    refine w_iload_n F dX1_pull_16 rfl ?_
    refine w_bipush F dX1_pull_17 rfl ?_
    refine w_icmp_ne F (tgt := 29) dX1_pull_19 (by decide) (by first | assumption | exact inR0 | exact (hR _ _ _).1 | (constructor <;> omega)) (by first | assumption | exact inR0 | exact (hR _ _ _).1 | (constructor <;> omega)) (fun h => ?_) (fun h => ?_)
    · exact mid (Or.inl h)
    · refine w_iload_n F dX1_pull_22 rfl ?_
      refine w_bipush F dX1_pull_23 rfl ?_
      refine w_icmp_ne F (tgt := 29) dX1_pull_25 (by decide) (by first | assumption | exact inR0 | exact (hR _ _ _).1 | (constructor <;> omega)) (by first | assumption | exact inR0 | exact (hR _ _ _).1 | (constructor <;> omega)) (fun h9 => ?_) (fun h9 => ?_)
      · exact mid (Or.inr h9)
      · have hb : bst (rkT T) S (tl a ++ tl b) = -4 := by rw [htw.1 h]; exact h9
        exact w_vret F (by omega) (by omega) (⟨rfl, ⟨xa, xb, na, nb, e, h1, h2, h3, h4, h5, by rw [hb]; exact h6, by rw [hb, wo_n]; exact h7, by rw [hb, wo_n]; exact h8⟩, OffS.rf⟩) dX1_pull_28
theorem nn_23 {T σ : Nat → Nat → Int} {t : TT} {x : Nat} {S : Nat → Bool} {ns : List Nat} (h : RC T σ t x S ns) (hn : ns.Nodup) : nn t ≤ 23 := by
  rw [← h.len]
  exact nd_len 23 ns hn h.all
theorem ct_holder (hE : EOk E) (γ : GG) {k : Nat} (hk : k < 13) {T : Nat → Nat → Int} {t : TT} {x : Nat} {S : Nat → Bool} {ns : List Nat} {j : Nat} (hroot : γ (2 + k) 2 0 = (x : Int)) (hr : RC T (γ (2 + k)) t x S ns) (hn : ns.Nodup) (hO : OrdT (keyT T) t) (hN : (tl t).Nodup) (hJ : ∀ i ∈ tl t, JC T (γ (2 + k)) i) (hj : j ∈ tl t) (hs : S j = true) : Ct l yX1_holder cX1_holder 3 (some (.object "DeadlineTree$Node")) E 400 28000 [.ref (E.ad (11 + 31 * k)), .int (iI (j : Int))] γ (fun r g => γ = g ∧ ∃ (u : TT) (y : Nat) (S' : Nat → Bool) (nu : List Nat), r = some (.ref (E.ad (19 + 31 * k + y))) ∧ RC T (γ (2 + k)) u y S' nu ∧ KV T (γ (2 + k)) j t x S ns u y S' nu ∧ bst (rkT T) S' (tl u) = (j : Int) ∧ (∀ z ∈ nu, z ∈ ns) ∧ nu.Nodup ∧ (∀ i ∈ tl u, i ∈ tl t) ∧ (tl u).Nodup) 0 0 := by
  refine Ct.of hE (by decide) (Nat.le_of_ble_eq_true rfl) (fun Φ hLn hΦ F hfr hlo => ?_)
  subst hLn; subst hΦ
  have h414 := F.ok.1.2.2
  have hrc := F.rc
  have hrs := F.rs
  show Wg Φ 3 _ 0 0 0 [(0, _), (1, _)] []
  refine w_rng (fun hR => ?_)
  have hjj := hJ j hj
  have j1 := hjj.1
  have jt := hjj.2.2.2.1.1
  have loop : ∀ (u : TT) (y : Nat) (S' : Nat → Bool) (nu : List Nat), RC T (γ (2 + k)) u y S' nu → KV T (γ (2 + k)) j t x S ns u y S' nu → (∀ z ∈ nu, z ∈ ns) → nu.Nodup → (∀ i ∈ tl u, i ∈ tl t) → (tl u).Nodup → OrdT (keyT T) u → j ∈ tl u → S' j = true → Wg Φ 3 γ 0 0 5 [(0, .ref (Φ.E.ad (11 + 31 * k))), (1, .int (iI (j : Int))), (2, .ref (Φ.E.ad (19 + 31 * k + y)))] [] := by
    intro u
    induction u with
    | leaf q =>
      intro y S' nu a1 a2 a3 a4 a5 a6 a7 a8 a9
      have hy := a1.lt
      have e : j = q := by simpa [tl] using a8
      have hb : bst (rkT T) S' (tl (.leaf q)) = (j : Int) := by
        rcases (bst_spec (rkT T) S' [q]) with ⟨w, w1⟩ | ⟨i, w, w1, _⟩
        · exact absurd ⟨by simp, e ▸ a9⟩ (w1 q)
        · have : i = q := by simpa using w1.1
          show bst (rkT T) S' [q] = _
          rw [w, this, e]
      refine w_aload_n F dX1_holder_5 rfl rfl ?_
      refine w_getF F (fN5 _ (by omega) (by omega)) (by omega) rfl in_X2 (by decide) (Or.inr q128) dX1_holder_6 ?_
      refine w_top (z' := (j : Int)) (by rw [a1.hold]; exact hb) ?_
      refine w_iload_n F dX1_holder_9 rfl ?_
      refine w_icmp_eq F (tgt := 23) dX1_holder_10 (by decide) (by first | assumption | exact inR0 | exact (hR _ _ _).1 | (constructor <;> omega)) (by first | assumption | exact inR0 | exact (hR _ _ _).1 | (constructor <;> omega)) (fun h => ?_) (fun h => ?_)
      · refine w_aload_n F dX1_holder_23 rfl rfl ?_
        exact w_aret F (by first | exact Or.inr ⟨_, rfl⟩ | exact Or.inl rfl | exact rf_or _) (by omega) (by omega) (⟨rfl, .leaf q, y, S', nu, rfl, a1, a2, hb, a3, a4, a5, a6⟩) dX1_holder_24
      · omega
    | branch s a b iha ihb =>
      intro y S' nu a1 a2 a3 a4 a5 a6 a7 a8 a9
      have hy := a1.lt
      obtain ⟨xa, xb, na, nb, e, h1, h2, h3, h4, h5, h6, h7, h8⟩ := id a1
      have hbr := (bst_spec (rkT T) S' (tl a ++ tl b)).in
      have hrg : -4 ≤ bst (rkT T) S' (tl a ++ tl b) ∧ bst (rkT T) S' (tl a ++ tl b) < 12 := by
        rcases hbr with w | ⟨i, w, w1⟩
        · omega
        · have := (hJ i (a5 i w1.1)).1; omega
      have a6' := List.nodup_append.mp a6
      have hn1 := List.nodup_cons.mp (e ▸ a4)
      have hn2 := List.nodup_append.mp hn1.2
      obtain ⟨o1, o2, _, _, o5, o6⟩ := id a7
      have hgl := gl_key (γ := γ) (k := k) (x := y) (T := T) (s := s) (j := j) h4 j1 jt
      refine w_aload_n F dX1_holder_5 rfl rfl ?_
      refine w_getF F (fN5 _ (by omega) (by omega)) (by omega) rfl in_X2 (by decide) (Or.inr q128) dX1_holder_6 ?_
      refine w_top h6 ?_
      refine w_iload_n F dX1_holder_9 rfl ?_
      refine w_icmp_eq F (tgt := 23) dX1_holder_10 (by decide) (by first | assumption | exact inR0 | exact (hR _ _ _).1 | (constructor <;> omega)) (by first | assumption | exact inR0 | exact (hR _ _ _).1 | (constructor <;> omega)) (fun h => ?_) (fun h => ?_)
      · refine w_aload_n F dX1_holder_23 rfl rfl ?_
        exact w_aret F (by first | exact Or.inr ⟨_, rfl⟩ | exact Or.inl rfl | exact rf_or _) (by omega) (by omega) (⟨rfl, .branch s a b, y, S', nu, rfl, a1, a2, h, a3, a4, a5, a6⟩) dX1_holder_24
      · obtain ⟨kl, kr⟩ := a2.dn e a4 a3 h1 h2 h3 h4 h5 h6 h7 h8 (by rw [h6]; exact h)
        have hwj : wo S' (bst (rkT T) S' (tl a ++ tl b)) j = true := by rw [wo_oth (fun q => h q.symm)]; exact a9
        refine w_aload_n F dX1_holder_13 rfl rfl ?_
        refine w_aload_n F dX1_holder_14 rfl rfl ?_
        refine w_iload_n F dX1_holder_15 rfl ?_
        refine w_callV F (As := [_, _]) (ct_partS hE γ hk hy hjj) (lw_V q426 q428 qs9 q71 q429) md_X1_part (by omega) (cell_stO (by omega)) rfl rfl rfl rfl (Nat.le_of_ble_eq_true rfl) dX1_holder_16 ⟨by omega, by omega⟩ ⟨by omega, by omega⟩ ?_
        rintro _ _ ⟨rfl, rfl⟩
        by_cases hc : keyT T j ≤ s
        · have hja : j ∈ tl a := by
            rcases List.mem_append.mp a8 with q | q
            · exact q
            · have := o2 j q; omega
          rw [if_pos (hgl.mpr hc)]
          refine w_toN h2 ?_
          refine w_astore_n F dX1_holder_19 (by decide) rfl (lv' := [(0, _), (1, _), (2, _)]) rfl rfl ?_
          refine w_goto F (tgt := 5) dX1_holder_20 (by decide) ?_
          exact iha xa _ na h7 (kl (fun q hq e2 => a6'.2.2 j hja q hq e2.symm)) (fun z hz => a3 z (by rw [e]; exact List.mem_cons_of_mem _ (List.mem_append_left _ hz))) hn2.1 (fun i hi => a5 i (List.mem_append_left _ hi)) a6'.1 o5 hja hwj
        · have hjb : j ∈ tl b := by
            rcases List.mem_append.mp a8 with q | q
            · have := o1 j q; omega
            · exact q
          rw [if_neg (fun q => hc (hgl.mp q))]
          refine w_toN h3 ?_
          refine w_astore_n F dX1_holder_19 (by decide) rfl (lv' := [(0, _), (1, _), (2, _)]) rfl rfl ?_
          refine w_goto F (tgt := 5) dX1_holder_20 (by decide) ?_
          exact ihb xb _ nb h8 (kr (fun q hq e2 => a6'.2.2 q hq j hjb e2)) (fun z hz => a3 z (by rw [e]; exact List.mem_cons_of_mem _ (List.mem_append_right _ hz))) hn2.2.1 (fun i hi => a5 i (List.mem_append_right _ hi)) a6'.2.1 o6 hjb hwj
  refine w_aload_n F dX1_holder_0 rfl rfl ?_
  refine w_getF F (fS2 _ (by omega)) (by omega) rfl in_X1 (by decide) (Or.inl q151) dX1_holder_1 ?_
  refine w_toN hroot ?_
  refine w_astore_n F dX1_holder_4 (by decide) rfl (lv' := [(0, _), (1, _), (2, _)]) rfl rfl ?_
  exact loop t x S ns hr KV.top (fun z hz => hz) hn (fun i hi => hi) hN hO hj hs
theorem ct_vacate (hE : EOk E) (hA : AhOk l E) (hH : HoOk l E) (γ : GG) {k : Nat} (hk : k < 13) {T : Nat → Nat → Int} {t : TT} {x : Nat} {S : Nat → Bool} {ns : List Nat} {j : Nat} (hroot : γ (2 + k) 2 0 = (x : Int)) (hr : RC T (γ (2 + k)) t x S ns) (hn : ns.Nodup) (hO : OrdT (keyT T) t) (hN : (tl t).Nodup) (hJ : ∀ i ∈ tl t, JC T (γ (2 + k)) i) (hj : j ∈ tl t) (hs : S j = true) : Ct l yX1_vacate cX1_vacate 3 none E 700 40000 [.ref (E.ad (11 + 31 * k)), .int (iI (j : Int))] γ (fun r g => r = none ∧ RC T (g (2 + k)) t x (wo S (j : Int)) ns ∧ OffS k (fun f i => f = 25 ∧ i ∈ ns) γ g) 2 32 := by
  refine Ct.of hE (by decide) (Nat.le_of_ble_eq_true rfl) (fun Φ hLn hΦ F hfr hlo => ?_)
  subst hLn; subst hΦ
  have h414 := F.ok.1.2.2
  have hrc := F.rc
  have hrs := F.rs
  show Wg Φ 3 _ 0 0 0 [(0, _), (1, _)] []
  refine w_rng (fun hR => ?_)
  refine w_aload_n F dX1_vacate_0 rfl rfl ?_
  refine w_iload_n F dX1_vacate_1 rfl ?_
  refine w_callV F (As := [_]) (ct_holder hE γ hk hroot hr hn hO hN hJ hj hs) (lw_V q670 q672 qs21 q71 q673) md_X1_holder (by omega) (cell_stO (by omega)) rfl rfl rfl rfl (Nat.le_of_ble_eq_true rfl) dX1_vacate_2 ⟨by omega, by omega⟩ ⟨by omega, by omega⟩ ?_
  rintro _ _ ⟨rfl, u, y, S', nu, rfl, r1, kv, hb, q1, q2, q3, q4⟩
  have hy := r1.lt
  have hnu := nn_23 r1 q2
  refine w_astore_n F dX1_vacate_5 (by decide) rfl (lv' := [(0, _), (1, _), (2, _)]) rfl rfl ?_
  refine w_aload_n F dX1_vacate_6 rfl rfl ?_
  refine w_bipush F dX1_vacate_7 rfl ?_
  refine w_putF F (fN5 _ (by omega) (by omega)) (by omega) rfl in_X2 tyX2 tyX2_ok nmX2 (by decide) (Or.inr q128) rfl rfl rfl (by first | assumption | exact inR0 | exact (hR _ _ _).1 | (constructor <;> omega)) (noB rfl) (noP rfl) dX1_vacate_9 ?_
  refine w_aload_n F dX1_vacate_12 rfl rfl ?_
  refine w_aload_n F dX1_vacate_13 rfl rfl ?_
  obtain ⟨g2, hg2⟩ : ∃ g, g = gu γ (2 + k) 25 y (-4) := ⟨_, rfl⟩
  have of2 : OffS k (fun f z => f = 25 ∧ z = y) γ g2 := by rw [hg2]; exact OffS.rf.up ⟨rfl, rfl⟩
  rw [← hg2]
  have p2 := r1.vac (σ' := g2 (2 + k)) q2 (by rw [hg2]; exact gu_s _ _ _ _ _) (fun f z q => of2.s q)
  rw [hb] at p2
  refine w_callV F (As := [_]) (ct_pull hE hA hH hk u y (wo S' (j : Int)) nu g2 p2 q2 q4 (fun i hi => (hJ i (q3 i hi)).off of2 (fun f z w => by omega))) (lw_V q674 q676 qs22 q71 q677) md_X1_pull (by omega) (cell_stO (by omega)) rfl rfl rfl rfl (Nat.le_of_ble_eq_true rfl) dX1_vacate_14 ⟨by omega, by omega⟩ ⟨by omega, by omega⟩ ?_
  rintro _ g3 ⟨rfl, r3, of3⟩
  have oo : OffS k (fun f z => f = 25 ∧ z ∈ nu) γ g3 := (of2.mono (fun f z q => ⟨q.1, by rw [q.2]; exact r1.me⟩)).tr of3
  exact w_vret F (by omega) (by omega) (⟨rfl, kv (g3 (2 + k)) (fun z _ hz f _ _ => oo.s (fun q => hz q.2)) r3, oo.mono (fun f z q => ⟨q.1, q1 z q.2⟩)⟩) dX1_vacate_17
end S3
