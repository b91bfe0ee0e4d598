/-! State: build, levelled -/
abbrev offB (ns : List Nat) : Nat → Nat → Prop := fun f i => (f = 1 ∧ i = 0) ∨ (21 ≤ f ∧ f ≤ 26 ∧ i ∈ ns)
theorem bst_0 (R : Nat → Int) (L : List Nat) : bst R (fun _ => false) L = -4 := by
  rcases (bst_spec R (fun _ => false) L).in with q | ⟨_, _, q⟩
  · exact q
  · cases q.2
theorem nzs_at {Lr : List Nat} {a : Nat → Int} (h : HL a (nzs Lr)) {i : Nat} (hi : i < Lr.length) : a i = (Lr.getD i 0 : Int) := by
  refine h i _ ?_
  rw [List.getElem?_map, List.getElem?_eq_getElem hi, List.getD_eq_getElem?_getD, List.getElem?_eq_getElem hi]
  rfl
theorem getD_in {Lr : List Nat} {i : Nat} (hi : i < Lr.length) : Lr.getD i 0 ∈ Lr := by
  rw [List.getD_eq_getElem?_getD, List.getElem?_eq_getElem hi]
  exact List.getElem_mem hi
theorem seg_take {Lr : List Nat} {fr n n1 : Nat} (h : n1 ≤ n) : ((Lr.drop fr).take n).take n1 = (Lr.drop fr).take n1 := by rw [List.take_take, Nat.min_eq_left h]
theorem seg_drop {Lr : List Nat} {fr n n1 : Nat} : ((Lr.drop fr).take n).drop n1 = (Lr.drop (fr + n1)).take (n - n1) := by rw [List.drop_take, List.drop_drop]
theorem seg_len {Lr : List Nat} {fr n : Nat} (h : fr + n ≤ Lr.length) : ((Lr.drop fr).take n).length = n := by simp; omega
theorem seg_at {Lr : List Nat} {fr n i : Nat} (hi : i < n) : ((Lr.drop fr).take n).getD i 0 = Lr.getD (fr + i) 0 := by
  rw [List.getD_eq_getElem?_getD, List.getD_eq_getElem?_getD, List.getElem?_take_of_lt hi, List.getElem?_drop]
section S5
variable {l : Launch} {E : EE}
theorem ct_build (hE : EOk E) {k : Nat} (hk : k < 13) {T : Nat → Nat → Int} {Lr : List Nat} (hLr : Lr.length ≤ 12) : ∀ (n fr : Nat) (us : List Nat) (γ : GG), 0 < n → fr + n ≤ Lr.length → HL (γ (2 + k) 9) (nzs Lr) → (∀ i ∈ Lr, JC T (γ (2 + k)) i) → UsC (γ (2 + k)) us → us.length + 2 * n ≤ 24 → Ct l yX1_build cX1_build 7 (some (.object "DeadlineTree$Node")) E (300 + n) (24000 + 60 * n) [.ref (E.ad (11 + 31 * k)), .int (iI (fr : Int)), .int (iI ((fr + n : Nat) : Int))] γ (fun r g => ∃ (x : Nat) (ns : List Nat), r = some (.ref (E.ad (19 + 31 * k + x))) ∧ RC T (g (2 + k)) (bld (keyT T) ((Lr.drop fr).take n)) x (fun _ => false) ns ∧ ns.Nodup ∧ (∀ z ∈ ns, z ∉ us) ∧ UsC (g (2 + k)) (ns ++ us) ∧ OffS k (offB ns) γ g) 0 0 := by
  intro n
  induction n using Nat.strongRecOn with
  | _ n ih =>
    intro fr us γ hn hfl h9 hJ hu hul
    refine Ct.of hE (by decide) (Nat.le_of_ble_eq_true rfl) (fun Φ hLn hΦ F hfr hlo => ?_)
    subst hLn; subst hΦ
    have h414 := F.ok.1.2.2
    have hrc := F.rc
    have hrs := F.rs
    show Wg Φ 7 _ 0 0 0 [(0, _), (1, _), (2, _)] []
    refine w_rng (fun hR => ?_)
    have hf0 : fr < Lr.length := by omega
    refine w_iload_n F dX1_build_0 rfl ?_
    refine w_iload_n F dX1_build_1 rfl ?_
    refine w_isub F dX1_build_2 ?_
    refine w_iconst F dX1_build_3 ?_
    refine w_icmp_ne F (tgt := 18) dX1_build_4 (by decide) (by first | assumption | exact inR0 | exact (hR _ _ _).1 | (constructor <;> omega)) (by first | assumption | exact inR0 | exact (hR _ _ _).1 | (constructor <;> omega)) (fun h => ?_) (fun h => ?_)
    · have hn2 : 1 < n := by omega
      obtain ⟨n1, hn1⟩ : ∃ n1, n1 = (n + 1) / 2 := ⟨_, rfl⟩
      have hlen := seg_len hfl
      refine w_iload_n F dX1_build_18 rfl ?_
      refine w_iload_n F dX1_build_19 rfl ?_
      refine w_iload_n F dX1_build_20 rfl ?_
      refine w_isub F dX1_build_21 ?_
      refine w_iconst F dX1_build_22 ?_
      refine w_iadd F dX1_build_23 ?_
      refine w_top (z' := ((n + 1 : Nat) : Int)) (by omega) ?_
      refine w_iconst F dX1_build_24 ?_
      refine w_idiv F dX1_build_25 (by omega) (by first | assumption | exact inR0 | exact (hR _ _ _).1 | (constructor <;> omega)) (by decide) (by decide) ?_
      refine w_iadd F dX1_build_26 ?_
      refine w_top (z' := ((fr + n1 : Nat) : Int)) (by omega) ?_
      refine w_istore_n F dX1_build_27 (by decide) rfl (lv' := [(0, _), (1, _), (2, _), (3, _)]) rfl ?_
      refine w_aload_n F dX1_build_28 rfl rfl ?_
      refine w_iload_n F dX1_build_29 rfl ?_
      refine w_iload_n F dX1_build_30 rfl ?_
      refine w_callV F (As := [_, _]) (ih n1 (by omega) fr us γ (by omega) (by omega) h9 hJ hu (by omega)) (lw_V q520 q522 qs15 q71 q523) md_X1_build (by omega) (cell_stO (by omega)) rfl rfl rfl rfl (Nat.le_of_ble_eq_true rfl) dX1_build_31 ⟨by omega, by omega⟩ ⟨by omega, by omega⟩ ?_
      rintro _ g1 ⟨x1, ns1, rfl, r1, d1, i1, u1, o1⟩
      have hx1 := r1.lt
      have hl1 : ns1.length + 1 = 2 * n1 := by
        rw [r1.len, nn_tl, tl_bld _ _ _ rfl (by rw [seg_len (by omega)]; omega), seg_len (by omega)]
      have c9 : ∀ {g g' : GG} {M : List Nat}, OffS k (offB M) g g' → g' (2 + k) 9 = g (2 + k) 9 := fun o => by
        funext z
        exact o.s (by unfold offB; omega)
      have cJ : ∀ {g g' : GG} {M : List Nat}, OffS k (offB M) g g' → (∀ i ∈ Lr, JC T (g (2 + k)) i) → ∀ i ∈ Lr, JC T (g' (2 + k)) i := fun o q i hi => (q i hi).off o (fun f z w => by unfold offB at w; omega)
      refine w_astore F dX1_build_34 (by decide) rfl (lv' := [(0, _), (1, _), (2, _), (3, _), (4, _)]) rfl rfl ?_
      refine w_aload_n F dX1_build_36 rfl rfl ?_
      refine w_iload_n F dX1_build_37 rfl ?_
      refine w_iload_n F dX1_build_38 rfl ?_
      refine w_top (z' := ((fr + n1 + (n - n1) : Nat) : Int)) (by omega) ?_
      refine w_callV F (As := [_, _]) (ih (n - n1) (by omega) (fr + n1) (ns1 ++ us) g1 (by omega) (by omega) (by rw [c9 o1]; exact h9) (cJ o1 hJ) u1 (by rw [List.length_append]; omega)) (lw_V q520 q522 qs15 q71 q523) md_X1_build (by omega) (cell_stO (by omega)) rfl rfl rfl rfl (Nat.le_of_ble_eq_true rfl) dX1_build_39 ⟨by omega, by omega⟩ ⟨by omega, by omega⟩ ?_
      rintro _ g2 ⟨x2, ns2, rfl, r2, d2, i2, u2, o2⟩
      have hx2 := r2.lt
      have hl2 : ns2.length + 1 = 2 * (n - n1) := by
        rw [r2.len, nn_tl, tl_bld _ _ _ rfl (by rw [seg_len (by omega)]; omega), seg_len (by omega)]
      have hJ2 := cJ o2 (cJ o1 hJ)
      obtain ⟨jm, hjm⟩ : ∃ q, q = Lr.getD (fr + (n1 - 1)) 0 := ⟨_, rfl⟩
      have hjm1 : jm ∈ Lr := by rw [hjm]; exact getD_in (by omega)
      have hJm := hJ2 jm hjm1
      have j1 := hJm.1
      refine w_astore F dX1_build_42 (by decide) rfl (lv' := [(0, _), (1, _), (2, _), (3, _), (4, _), (5, _)]) rfl rfl ?_
      refine w_aload_n F dX1_build_44 rfl rfl ?_
      refine w_aload_n F dX1_build_45 rfl rfl ?_
      refine w_get F (by omega) (cell_stO (by omega)) rfl in_X1 9 (by decide) (Or.inl q163) rfl dX1_build_46 ?_
      refine w_iload_n F dX1_build_49 rfl ?_
      refine w_iconst F dX1_build_50 ?_
      refine w_isub F dX1_build_51 ?_
      refine w_top (z' := ((fr + (n1 - 1) : Nat) : Int)) (by omega) ?_
      first | refine w_baldN F (aS9 _ (by omega)) (by omega) (by decide) (by omega) dX1_build_52 ?_ | refine w_bald F (aS9 _ (by omega)) (by omega) (by decide) (by omega) (by omega) dX1_build_52 ?_
      refine w_top (z' := (jm : Int)) (by rw [c9 o2, c9 o1, hjm]; exact nzs_at h9 (by omega)) ?_
      refine w_callV F (As := [_]) (ct_leafS hE g2 hk hJm u2 (by rw [List.length_append, List.length_append]; omega)) (lw_V q418 q420 qs8 q71 q421) md_X1_leaf (by omega) (cell_stO (by omega)) rfl rfl rfl rfl (Nat.le_of_ble_eq_true rfl) dX1_build_53 ⟨by omega, by omega⟩ ⟨by omega, by omega⟩ ?_
      rintro _ g3 ⟨x3, hx3, n3, rfl, r3, u3, o3⟩
      refine w_astore F dX1_build_56 (by decide) rfl (lv' := [(0, _), (1, _), (2, _), (3, _), (4, _), (5, _), (6, _)]) rfl rfl ?_
      refine w_aload F dX1_build_58 rfl rfl ?_
      refine w_aload F dX1_build_60 rfl rfl ?_
      refine w_frN ?_
      refine w_putF F (val := vN _ _) (fN1 _ (by omega) (by omega)) (by omega) rfl in_X2 tyX2 tyX2_ok nmX2 (by decide) (Or.inr q116) rfl (by first | rfl | exact nar_rf _ _) (by first | rfl | exact fit_rf _ _) (by first | assumption | exact inR0 | exact (hR _ _ _).1 | (constructor <;> omega)) (noB rfl) (fun _ => by constructor <;> omega) dX1_build_62 ?_
      refine w_aload F dX1_build_65 rfl rfl ?_
      refine w_aload F dX1_build_67 rfl rfl ?_
      refine w_frN ?_
      refine w_putF F (val := vN _ _) (fN2 _ (by omega) (by omega)) (by omega) rfl in_X2 tyX2 tyX2_ok nmX2 (by decide) (Or.inr q118) rfl (by first | rfl | exact nar_rf _ _) (by first | rfl | exact fit_rf _ _) (by first | assumption | exact inR0 | exact (hR _ _ _).1 | (constructor <;> omega)) (noB rfl) (fun _ => by constructor <;> omega) dX1_build_69 ?_
      refine w_aload F dX1_build_72 rfl rfl ?_
      refine w_iload_n F dX1_build_74 rfl ?_
      refine w_iload_n F dX1_build_75 rfl ?_
      refine w_isub F dX1_build_76 ?_
      refine w_top (z' := (n : Int)) (by omega) ?_
      refine w_putF F (fN6 _ (by omega) (by omega)) (by omega) rfl in_X2 tyX2 tyX2_ok nmX2 (by decide) (Or.inr q129) rfl rfl rfl (by first | assumption | exact inR0 | exact (hR _ _ _).1 | (constructor <;> omega)) (noB rfl) (noP rfl) dX1_build_77 ?_
      obtain ⟨g4, hg4⟩ : ∃ g, g = gu (gu (gu g3 (2 + k) 21 x3 (x1 : Int)) (2 + k) 22 x3 (x2 : Int)) (2 + k) 26 x3 (n : Int) := ⟨_, rfl⟩
      rw [← hg4]
      have o4 : OffS k (fun f i => 21 ≤ f ∧ f ≤ 26 ∧ i = x3) g3 g4 := by
        rw [hg4]
        exact ((OffS.rf.up (by omega)).up (by omega)).up (by omega)
      have m1 : x3 ∉ ns1 := fun q => n3 (List.mem_append_right _ (List.mem_append_left _ q))
      have m2 : x3 ∉ ns2 := fun q => n3 (List.mem_append_left _ q)
      have m0 : x3 ∉ us := fun q => n3 (List.mem_append_right _ (List.mem_append_right _ q))
      have m12 : ∀ z ∈ ns2, z ∉ ns1 := fun z q1 q2 => i2 z q1 (List.mem_append_left _ q2)
      have r1' : RC T (g4 (2 + k)) (bld (keyT T) ((Lr.drop fr).take n1)) x1 (fun _ => false) ns1 := r1.cg (fun z hz f q1 q2 => by
        rw [o4.s (fun q => m1 (by rw [← q.2.2]; exact hz)), o3.s (fun q => by rcases q with q | q; omega; exact m1 (by rw [← q.2.2]; exact hz)), o2.s (fun q => by rcases q with q | q; omega; exact m12 z q.2.2 hz)])
      have r2' : RC T (g4 (2 + k)) (bld (keyT T) ((Lr.drop (fr + n1)).take (n - n1))) x2 (fun _ => false) ns2 := r2.cg (fun z hz f q1 q2 => by
        rw [o4.s (fun q => m2 (by rw [← q.2.2]; exact hz)), o3.s (fun q => by rcases q with q | q; omega; exact m2 (by rw [← q.2.2]; exact hz))])
      obtain ⟨_, _, _, _, s3, s4, _, s5⟩ := r3
      have hB : bld (keyT T) ((Lr.drop fr).take n) = .branch (keyT T jm) (bld (keyT T) ((Lr.drop fr).take n1)) (bld (keyT T) ((Lr.drop (fr + n1)).take (n - n1))) := by
        rw [bld_2 _ (by rw [hlen]; exact hn2), hlen, ← hn1, seg_take (by omega), seg_drop, seg_at (by omega), ← hjm]
      have t1 : (tl (bld (keyT T) ((Lr.drop fr).take n1))).length = n1 := by rw [tl_bld _ _ _ rfl (by rw [seg_len (by omega)]; omega), seg_len (by omega)]
      have t2 : (tl (bld (keyT T) ((Lr.drop (fr + n1)).take (n - n1)))).length = n - n1 := by rw [tl_bld _ _ _ rfl (by rw [seg_len (by omega)]; omega), seg_len (by omega)]
      have hwz : wo (fun _ => false) (-4) = fun _ => false := wo_n _
      have hrc4 : RC T (g4 (2 + k)) (bld (keyT T) ((Lr.drop fr).take n)) x3 (fun _ => false) (x3 :: (ns1 ++ ns2)) := by
        rw [hB]
        refine ⟨x1, x2, ns1, ns2, rfl, hx3, by rw [hg4]; simp [gu], by rw [hg4]; simp [gu], ?_, ?_, ?_, ?_, ?_⟩
        · have q3 : g4 (2 + k) 23 x3 = T 2 jm := by rw [hg4]; simp only [gu]; simp; exact s3
          have q4 : g4 (2 + k) 24 x3 = (jm : Int) := by rw [hg4]; simp only [gu]; simp; exact s4
          have := hJm.2.2.2.1
          rw [q3, q4]
          unfold keyT
          omega
        · rw [t1, t2, hg4, gu_s]; omega
        · rw [bst_0, hg4]; simp only [gu]; simp; rw [s5, bst_0]
        · rw [bst_0, hwz]; exact r1'
        · rw [bst_0, hwz]; exact r2'
      have hnd : (x3 :: (ns1 ++ ns2)).Nodup := List.nodup_cons.mpr ⟨fun q => by rcases List.mem_append.mp q with w | w; exact m1 w; exact m2 w, List.nodup_append.mpr ⟨d1, d2, fun a ha b hb e => m12 b hb (e ▸ ha)⟩⟩
      have hni : ∀ z ∈ x3 :: (ns1 ++ ns2), z ∉ us := fun z hz => by
        rcases List.mem_cons.mp hz with w | w
        · rw [w]; exact m0
        · rcases List.mem_append.mp w with w | w
          · exact i1 z w
          · exact fun q => i2 z w (List.mem_append_right _ q)
      obtain ⟨_, _, _, un, _⟩ := id hu
      have hU : UsC (g4 (2 + k)) (x3 :: (ns1 ++ ns2) ++ us) := u3.cg (o4.s (by omega)) (List.nodup_append.mpr ⟨hnd, un, fun a ha b hb e => hni a ha (e ▸ hb)⟩) (fun z => by
        simp only [List.mem_cons, List.mem_append]
        constructor
        · rintro (q | q | q | q)
          · exact Or.inl (Or.inl q)
          · exact Or.inl (Or.inr (Or.inr q))
          · exact Or.inl (Or.inr (Or.inl q))
          · exact Or.inr q
        · rintro ((q | q | q) | q)
          · exact Or.inl q
          · exact Or.inr (Or.inr (Or.inl q))
          · exact Or.inr (Or.inl q)
          · exact Or.inr (Or.inr (Or.inr q)))
      have hoff : OffS k (offB (x3 :: (ns1 ++ ns2))) γ g4 := by
        refine (((o1.mono ?_).tr (o2.mono ?_)).tr (o3.mono ?_)).tr (o4.mono ?_)
        · rintro f i (q | q)
          · exact Or.inl q
          · exact Or.inr ⟨q.1, q.2.1, List.mem_cons_of_mem _ (List.mem_append_left _ q.2.2)⟩
        · rintro f i (q | q)
          · exact Or.inl q
          · exact Or.inr ⟨q.1, q.2.1, List.mem_cons_of_mem _ (List.mem_append_right _ q.2.2)⟩
        · rintro f i (q | q)
          · exact Or.inl q
          · exact Or.inr ⟨q.1, q.2.1, by rw [q.2.2]; exact List.mem_cons_self⟩
        · intro f i q
          exact Or.inr ⟨q.1, q.2.1, by rw [q.2.2]; exact List.mem_cons_self⟩
      refine w_aload F dX1_build_80 rfl rfl ?_
      exact w_aret F (by first | exact Or.inr ⟨_, rfl⟩ | exact Or.inl rfl | exact rf_or _) (by omega) (by omega) (⟨x3, x3 :: (ns1 ++ ns2), rfl, hrc4, hnd, hni, hU, hoff⟩) dX1_build_82
    · have e1 : n = 1 := by omega
      subst e1
      obtain ⟨j, hj⟩ : ∃ q, q = Lr.getD fr 0 := ⟨_, rfl⟩
      have hJ0 := hJ j (by rw [hj]; exact getD_in hf0)
      have j1 := hJ0.1
      have hB : bld (keyT T) ((Lr.drop fr).take 1) = .leaf j := by
        have : (Lr.drop fr).take 1 = [j] := by
          rw [hj, List.getD_eq_getElem?_getD, List.getElem?_eq_getElem hf0, List.drop_eq_getElem_cons hf0]
          rfl
        rw [this, bld_1]
      refine w_aload_n F dX1_build_7 rfl rfl ?_
      refine w_aload_n F dX1_build_8 rfl rfl ?_
      refine w_get F (by omega) (cell_stO (by omega)) rfl in_X1 9 (by decide) (Or.inl q163) rfl dX1_build_9 ?_
      refine w_iload_n F dX1_build_12 rfl ?_
      first | refine w_baldN F (aS9 _ (by omega)) (by omega) (by decide) (by omega) dX1_build_13 ?_ | refine w_bald F (aS9 _ (by omega)) (by omega) (by decide) (by omega) (by omega) dX1_build_13 ?_
      refine w_top (z' := (j : Int)) (by rw [hj]; exact nzs_at h9 hf0) ?_
      refine w_callV F (As := [_]) (ct_leafS hE γ hk hJ0 hu (by omega)) (lw_V q418 q420 qs8 q71 q421) md_X1_leaf (by omega) (cell_stO (by omega)) rfl rfl rfl rfl (Nat.le_of_ble_eq_true rfl) dX1_build_14 ⟨by omega, by omega⟩ ⟨by omega, by omega⟩ ?_
      rintro _ g3 ⟨x3, hx3, n3, rfl, r3, u3, o3⟩
      exact w_aret F (by first | exact Or.inr ⟨_, rfl⟩ | exact Or.inl rfl | exact rf_or _) (by omega) (by omega) (⟨x3, [x3], rfl, by rw [hB]; exact r3, by simp, fun z hz => by rw [List.mem_singleton.mp hz]; exact n3, u3, o3.mono (fun f i q => by rcases q with q | q; exact Or.inl q; exact Or.inr ⟨q.1, q.2.1, by rw [q.2.2]; simp⟩)⟩) dX1_build_17
end S5
