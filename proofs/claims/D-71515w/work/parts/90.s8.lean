/-! State: add -/
def OnlyS (k : Nat) (γ g : GG) : Prop := ∀ o, o ≠ 2 + k → g o = γ o
theorem OffS.only {k : Nat} {P : Nat → Nat → Prop} {γ g : GG} (h : OffS k P γ g) : OnlyS k γ g := fun o ho => by
  funext f i
  exact h o f i (fun q => ho q.1)
theorem OnlyS.tr {k : Nat} {a b c : GG} (h1 : OnlyS k a b) (h2 : OnlyS k b c) : OnlyS k a c := fun o ho => (h2 o ho).trans (h1 o ho)
/-- a State's value -/
def SV (σ : Nat → Nat → Int) (v : VV) : Prop := σ 0 0 = (v.1 : Int) ∧ SR v.2.1 σ v.2.2 (fun _ => true) ∧ ∀ j, v.1.testBit j = true → σ 4 j = v.2.1 1 j ∧ σ 5 j = v.2.1 2 j ∧ σ 6 j = v.2.1 3 j ∧ σ 7 j = v.2.1 4 j
def SE (σ : Nat → Nat → Int) : Prop := σ 0 0 = 0 ∧ σ 1 0 = 0 ∧ σ 2 0 = -1
theorem SV.jc {σ : Nat → Nat → Int} {v : VV} (h : SV σ v) (hV : VOk v) {j : Nat} (hj : v.1.testBit j = true) : JC v.2.1 σ j := by
  have h1 := hV.1.2 j hj
  exact ⟨tb12 hV.1.1 hj, h.2.2 j hj, h1⟩
theorem SV.jt {σ : Nat → Nat → Int} {v : VV} (h : SV σ v) (hV : VOk v) : ∀ i ∈ tl v.2.2, JC v.2.1 σ i := fun i hi => h.jc hV ((hV.2.1.1 i).mp hi)
theorem rkT_up {T : Nat → Nat → Int} {i j : Nat} {a b c d : Int} (h : i ≠ j) : rkT (upT T j a b c d) i = rkT T i := by
  unfold rkT upT
  simp [h]
/-- two leaves in a leaf's place -/
theorem RC.two {T σ : Nat → Nat → Int} {j q j1 j2 y x1 x2 : Nat} {S : Nat → Bool} (hS : S j = false) (hjj : (j1 = j ∧ j2 = q) ∨ (j1 = q ∧ j2 = j)) (hy : y < 23) (hx1 : x1 < 23) (hx2 : x2 < 23) (h21 : σ 21 y = (x1 : Int)) (h22 : σ 22 y = (x2 : Int)) (h23 : σ 23 y = T 2 j1) (h24 : σ 24 y = (j1 : Int)) (h26 : σ 26 y = 2) (h25 : σ 25 y = bst (rkT T) S [q]) (hj1 : j1 < 12) (ht : 0 ≤ T 2 j1 ∧ T 2 j1 ≤ 99) (r1 : RC T σ (.leaf j1) x1 (fun _ => false) [x1]) (r2 : RC T σ (.leaf j2) x2 (fun _ => false) [x2]) : RC T σ (.branch (keyT T j1) (.leaf j1) (.leaf j2)) y S [y, x1, x2] := by
  have hb : bst (rkT T) S (tl (.leaf j1) ++ tl (.leaf j2)) = bst (rkT T) S [q] := bst_m (fun i => by
    simp only [tl, List.mem_append, List.mem_singleton]
    rcases hjj with ⟨e1, e2⟩ | ⟨e1, e2⟩
    · subst e1; subst e2
      constructor
      · rintro ⟨w | w, ws⟩
        · rw [w, hS] at ws; cases ws
        · exact ⟨w, ws⟩
      · rintro ⟨w, ws⟩
        exact ⟨Or.inr w, ws⟩
    · subst e1; subst e2
      constructor
      · rintro ⟨w | w, ws⟩
        · exact ⟨w, ws⟩
        · rw [w, hS] at ws; cases ws
      · rintro ⟨w, ws⟩
        exact ⟨Or.inl w, ws⟩) (fun _ _ _ => rfl)
  have hw : ∀ i, i = j ∨ i = q → wo S (bst (rkT T) S [q]) i = false := by
    intro i hi
    rcases hi with e | e
    · subst e; unfold wo; simp [hS]
    · subst e
      by_cases h0 : bst (rkT T) S [i] = -4
      · have := bst_none h0 i (by simp)
        unfold wo; simp [this]
      · obtain ⟨m, q1, q2, _⟩ := bst_nat h0
        have : m = i := by simpa using q2
        rw [q1, this]; unfold wo; simp
  have c1 : j1 = j ∨ j1 = q := by omega
  have c2 : j2 = j ∨ j2 = q := by omega
  refine ⟨x1, x2, [x1], [x2], rfl, hy, h21, h22, ?_, by rw [h26]; rfl, by rw [h25]; exact hb.symm, ?_, ?_⟩
  · rw [h23, h24]; unfold keyT; omega
  · rw [hb]
    exact r1.cgS (fun i hi => by
      have : i = j1 := by simpa [tl] using hi
      rw [this]
      exact ⟨(hw j1 c1).symm, rfl, fun _ => rfl⟩)
  · rw [hb]
    exact r2.cgS (fun i hi => by
      have : i = j2 := by simpa [tl] using hi
      rw [this]
      exact ⟨(hw j2 c2).symm, rfl, fun _ => rfl⟩)
section S8
variable {l : Launch} {E : EE}
theorem ct_addS (hE : EOk E) (hA : AhOk l E) (γ : GG) {k : Nat} (hk : k < 13) {v : VV} (hv : SV (γ (2 + k)) v) (hV : VOk v) {kd s d ln : Int} (ht : told kd s d ln) (hc : cnt v.1 12 ≠ 12) : Ct l yX1_add cX1_add 11 (some .int) E 900 48000 [.ref (E.ad (11 + 31 * k)), .int (iI kd), .int (iI s), .int (iI d), .int (iI ln)] γ (fun r g => r = some (.int (iI ((levT (keyT (upT v.2.1 (fj v.1) kd s d ln)) (keyT (upT v.2.1 (fj v.1) kd s d ln) (fj v.1)) (insT (keyT (upT v.2.1 (fj v.1) kd s d ln)) (fj v.1) v.2.2)).2 : Int))) ∧ SV (g (2 + k)) (addV v kd s d ln) ∧ OnlyS k γ g) 0 0 := by
  refine Ct.of hE (by decide) (Nat.le_of_ble_eq_true rfl) (fun Φ hLn hΦ F hfr hlo => ?_)
  subst hLn; subst hΦ
  have h414 := F.ok.1.2.2
  have hrc := F.rc
  have hrs := F.rs
  show Wg Φ 11 _ 0 0 0 [(0, _), (1, _), (2, _), (3, _), (4, _)] []
  refine w_rng (fun hR => ?_)
  obtain ⟨f1, f2, f3⟩ := fj_spec hc
  have hVa := VOk.add hV ht hc
  obtain ⟨b, T, t⟩ := v
  obtain ⟨v1, ⟨x, ns, hroot, hr0, hnd, hU⟩, v3⟩ := id hv
  dsimp only at *
  obtain ⟨j, hj⟩ : ∃ q, q = fj b := ⟨_, rfl⟩
  unfold addV at F hVa
  dsimp only at F hVa
  rw [← hj] at f1 f2 f3 F hVa
  obtain ⟨T', hT'⟩ : ∃ q, q = upT T j kd s d ln := ⟨_, rfl⟩
  rw [← hT'] at F hVa
  have hb2 : b < 4096 := hV.1.1
  have hor : b ||| 2 ^ j < 4096 := or_lt hb2 f1
  have t1 := ht.1
  have t2 := ht.2.1
  have t3 := ht.2.2.1
  have t4 := ht.2.2.2
  have hx := hr0.lt
  refine w_aload_n F dX1_add_0 rfl rfl ?_
  refine w_callV F (As := []) (ct_freeS hE γ hk v1 hb2 hc) (lw_V q410 q411 q412 q71 q413) md_X1_free (by omega) (cell_stO (by omega)) rfl rfl rfl rfl (Nat.le_of_ble_eq_true rfl) dX1_add_1 ⟨by omega, by omega⟩ ⟨by omega, by omega⟩ ?_
  rintro _ _ ⟨rfl, rfl⟩
  rw [← hj]
  refine w_istore F dX1_add_4 (by decide) rfl (lv' := [(0, _), (1, _), (2, _), (3, _), (4, _), (5, _)]) rfl ?_
  refine w_aload_n F dX1_add_6 rfl rfl ?_
  refine w_get F (by omega) (cell_stO (by omega)) rfl in_X1 4 (by decide) (Or.inl q154) rfl dX1_add_7 ?_
  refine w_iload F dX1_add_10 rfl ?_
  refine w_iload_n F dX1_add_12 rfl ?_
  refine w_i2b F dX1_add_13 (by omega) (by omega) ?_
  first | refine w_bastN F (aS4 _ (by omega)) (by omega) (by decide) (isP_n rfl) (by constructor <;> omega) (by omega) dX1_add_14 ?_ | refine w_bast F (aS4 _ (by omega)) (by omega) (by decide) (isP_n rfl) (by constructor <;> omega) (by omega) (by omega) dX1_add_14 ?_
  refine w_aload_n F dX1_add_15 rfl rfl ?_
  refine w_get F (by omega) (cell_stO (by omega)) rfl in_X1 5 (by decide) (Or.inl q156) rfl dX1_add_16 ?_
  refine w_iload F dX1_add_19 rfl ?_
  refine w_iload_n F dX1_add_21 rfl ?_
  refine w_i2b F dX1_add_22 (by omega) (by omega) ?_
  first | refine w_bastN F (aS5 _ (by omega)) (by omega) (by decide) (isP_n rfl) (by constructor <;> omega) (by omega) dX1_add_23 ?_ | refine w_bast F (aS5 _ (by omega)) (by omega) (by decide) (isP_n rfl) (by constructor <;> omega) (by omega) (by omega) dX1_add_23 ?_
  refine w_aload_n F dX1_add_24 rfl rfl ?_
  refine w_get F (by omega) (cell_stO (by omega)) rfl in_X1 6 (by decide) (Or.inl q158) rfl dX1_add_25 ?_
  refine w_iload F dX1_add_28 rfl ?_
  refine w_iload_n F dX1_add_30 rfl ?_
  refine w_i2b F dX1_add_31 (by omega) (by omega) ?_
  first | refine w_bastN F (aS6 _ (by omega)) (by omega) (by decide) (isP_n rfl) (by constructor <;> omega) (by omega) dX1_add_32 ?_ | refine w_bast F (aS6 _ (by omega)) (by omega) (by decide) (isP_n rfl) (by constructor <;> omega) (by omega) (by omega) dX1_add_32 ?_
  refine w_aload_n F dX1_add_33 rfl rfl ?_
  refine w_get F (by omega) (cell_stO (by omega)) rfl in_X1 7 (by decide) (Or.inl q160) rfl dX1_add_34 ?_
  refine w_iload F dX1_add_37 rfl ?_
  refine w_iload F dX1_add_39 rfl ?_
  refine w_i2b F dX1_add_41 (by omega) (by omega) ?_
  first | refine w_bastN F (aS7 _ (by omega)) (by omega) (by decide) (isP_n rfl) (by constructor <;> omega) (by omega) dX1_add_42 ?_ | refine w_bast F (aS7 _ (by omega)) (by omega) (by decide) (isP_n rfl) (by constructor <;> omega) (by omega) (by omega) dX1_add_42 ?_
  refine w_aload_n F dX1_add_43 rfl rfl ?_
  refine w_dup F dX1_add_44 rfl ?_
  refine w_getF F (fS0 _ (by omega)) (by omega) rfl in_X1 (by decide) (Or.inl q148) dX1_add_45 ?_
  refine w_top (z' := (b : Int)) (by rw [gu_f (by decide), gu_f (by decide), gu_f (by decide), gu_f (by decide)]; exact v1) ?_
  refine w_iconst F dX1_add_48 ?_
  refine w_iload F dX1_add_49 rfl ?_
  refine w_ishl1 F (by omega) dX1_add_51 ?_
  refine w_ior F dX1_add_52 ?_
  refine w_putF F (fS0 _ (by omega)) (by omega) rfl in_X1 tyX1 tyX1_ok nmX1 (by decide) (Or.inl q148) rfl rfl rfl (by first | assumption | exact inR0 | exact (hR _ _ _).1 | (constructor <;> omega)) (noB rfl) (noP rfl) dX1_add_53 ?_
  obtain ⟨g1, hg1⟩ : ∃ g, g = gu (gu (gu (gu (gu γ (2 + k) 4 j kd) (2 + k) 5 j s) (2 + k) 6 j d) (2 + k) 7 j ln) (2 + k) 0 0 ((b ||| 2 ^ j : Nat) : Int) := ⟨_, rfl⟩
  rw [← hg1]
  have o1 : OffS k (fun f i => (4 ≤ f ∧ f ≤ 7 ∧ i = j) ∨ (f = 0 ∧ i = 0)) γ g1 := by rw [hg1]; exact ((((OffS.rf.up (by omega)).up (by omega)).up (by omega)).up (by omega)).up (by omega)
  have hT1 : T' 1 j = kd ∧ T' 2 j = s ∧ T' 3 j = d ∧ T' 4 j = ln := by rw [hT']; unfold upT; simp
  have hTo : ∀ f i, i ≠ j → T' f i = T f i := fun f i hi => by rw [hT']; unfold upT; rw [if_neg hi]
  have hJj : JC T' (g1 (2 + k)) j := by
    refine ⟨f1, ⟨?_, ?_, ?_, ?_⟩, by rw [hT1.1]; exact t1, by rw [hT1.2.1]; exact t2, by rw [hT1.2.2.1]; exact t3, by rw [hT1.2.2.2]; exact t4⟩
    · rw [hT1.1, hg1]; simp [gu]
    · rw [hT1.2.1, hg1]; simp [gu]
    · rw [hT1.2.2.1, hg1]; simp [gu]
    · rw [hT1.2.2.2, hg1]; simp [gu]
  have hjt : ∀ i ∈ tl t, i ≠ j := fun i hi e => by
    have := (hV.2.1.1 i).mp hi
    rw [e, f2] at this
    cases this
  have hJt : ∀ i ∈ tl t, JC T' (g1 (2 + k)) i := fun i hi => by
    have h0 := hv.jt hV i hi
    have hne := hjt i hi
    obtain ⟨q1, q2, q3⟩ := h0
    refine ⟨q1, ?_, ?_⟩
    · rw [hTo 1 i hne, hTo 2 i hne, hTo 3 i hne, hTo 4 i hne, o1.s (by omega), o1.s (by omega), o1.s (by omega), o1.s (by omega)]
      exact q2
    · rw [hTo 1 i hne, hTo 2 i hne, hTo 3 i hne, hTo 4 i hne]
      exact q3
  obtain ⟨S0, hS0⟩ : ∃ q, q = wo (fun _ => true) (j : Int) := ⟨_, rfl⟩
  have hS0j : S0 j = false := by rw [hS0]; unfold wo; simp
  have r1 : RC T' (g1 (2 + k)) t x S0 ns := (hr0.cgS (T' := T') (S' := S0) (fun i hi => ⟨by rw [hS0, wo_oth (by have := hjt i hi; omega)], (hTo 2 i (hjt i hi)).symm, fun _ => by rw [hT', rkT_up (hjt i hi)]⟩)).cg (fun z _ f q1 q2 => o1.s (by omega))
  have hroot1 : g1 (2 + k) 2 0 = (x : Int) := by rw [o1.s (by omega)]; exact hroot
  have hU1 : UsC (g1 (2 + k)) ns := hU.cg (o1.s (by omega)) hnd (fun _ => Iff.rfl)
  have hO1 : OrdT (keyT T') t := ord_cg hV.2.2 (fun i hi => by unfold keyT; rw [hTo 2 i (hjt i hi)])
  have hI := ins_ord (κ := keyT T') (j := j) hO1 (fun i hi e => by
    have hbi := (hV.2.1.1 i).mp hi
    refine hjt i hi (key_inj (tb12 hb2 hbi) f1 ?_ ?_ e)
    · rw [hTo 2 i (hjt i hi)]; exact (hV.1.2 i hbi).2.1.1
    · rw [hT1.2.1]; exact t2.1)
  have hntl := nn_tl t
  have hnn := nn_23 r1 hnd
  have htlen : (tl t).length ≤ 11 := by
    have h1 := hV.2.1.cnt hb2
    have h2 := cnt_le b 12
    have h1 : cnt b 12 = (tl t).length := h1
    omega
  have tail : ∀ (g : GG) (u : TT) (q y j1 j2 x1 x2 : Nat) (S' : Nat → Bool) (nu : List Nat) (C : TT → TT) (pre post' : List Nat) (pa : Option (Nat × Bool)) (g3 : GG), Foc T' (g (2 + k)) 1 x S0 C pre post' pa (.leaf q) y S' nu → ns = pre ++ nu ++ post' → insT (keyT T') j t = C (insT (keyT T') j (.leaf q)) → OffS k (fun f _ => f = 26) g1 g → ((j1 = j ∧ j2 = q ∧ keyT T' j ≤ keyT T' q) ∨ (j1 = q ∧ j2 = j ∧ ¬ keyT T' j ≤ keyT T' q)) → q ∈ tl t → x1 ∉ ns → x2 ∉ x1 :: ns → RC T' (g3 (2 + k)) (.leaf j1) x1 (fun _ => false) [x1] → RC T' (g3 (2 + k)) (.leaf j2) x2 (fun _ => false) [x2] → UsC (g3 (2 + k)) (x2 :: x1 :: ns) → OffS k (fun f i => (f = 1 ∧ i = 0) ∨ (21 ≤ f ∧ f ≤ 26 ∧ (i = x1 ∨ i = x2))) g g3 → Wg Φ 11 g3 0 0 175 [(0, .ref (Φ.E.ad (11 + 31 * k))), (2, .int (iI s)), (5, .int (iI (j : Int))), (6, .ref (Φ.E.ad (19 + 31 * k + y))), (9, .ref (Φ.E.ad (19 + 31 * k + x1))), (10, .ref (Φ.E.ad (19 + 31 * k + x2)))] [] := by
    intro g u q y j1 j2 x1 x2 S' nu C pre post' pa g3 a1 a2 a3 a4 a5 a6 a7 a8 a9 a10 a11 a12
    have hy := a1.1.lt
    have hx1 := a9.lt
    have hx2 := a10.lt
    obtain ⟨eu, _, l2, l3, l4, l5, l6, l7⟩ := id a1.1
    have hq12 := (hJt q a6).1
    have hqt := (hJt q a6).2.2.2.1
    have hjt1 := hJj.2.2.2.1
    have hj1 : j1 < 12 ∧ (0 ≤ T' 2 j1 ∧ T' 2 j1 ≤ 99) := by
      rcases a5 with ⟨e, _⟩ | ⟨e, _⟩
      · rw [e]; exact ⟨f1, hjt1⟩
      · rw [e]; exact ⟨hq12, hqt⟩
    obtain ⟨_, _, _, _, m3, m4, _, _⟩ := id a9
    have hyns : y ∈ ns := by rw [a2, eu]; simp
    have n1 : y ≠ x1 := fun e => a7 (e ▸ hyns)
    have n2 : y ≠ x2 := fun e => a8 (List.mem_cons_of_mem _ (e ▸ hyns))
    have n12 : x1 ≠ x2 := fun e => a8 (by rw [← e]; exact List.mem_cons_self)
    refine w_aload F dX1_add_175 rfl rfl ?_
    refine w_aload F dX1_add_177 rfl rfl ?_
    refine w_frN ?_
    refine w_putF F (val := vN _ _) (fN1 _ (by omega) (by omega)) (by omega) rfl in_X2 tyX2 tyX2_ok nmX2 (by decide) (Or.inr q116) rfl (by first | rfl | exact nar_rf _ _) (by first | rfl | exact fit_rf _ _) (by first | assumption | exact inR0 | exact (hR _ _ _).1 | (constructor <;> omega)) (noB rfl) (fun _ => by constructor <;> omega) dX1_add_179 ?_
    refine w_aload F dX1_add_182 rfl rfl ?_
    refine w_aload F dX1_add_184 rfl rfl ?_
    refine w_frN ?_
    refine w_putF F (val := vN _ _) (fN2 _ (by omega) (by omega)) (by omega) rfl in_X2 tyX2 tyX2_ok nmX2 (by decide) (Or.inr q118) rfl (by first | rfl | exact nar_rf _ _) (by first | rfl | exact fit_rf _ _) (by first | assumption | exact inR0 | exact (hR _ _ _).1 | (constructor <;> omega)) (noB rfl) (fun _ => by constructor <;> omega) dX1_add_186 ?_
    refine w_aload F dX1_add_189 rfl rfl ?_
    refine w_aload F dX1_add_191 rfl rfl ?_
    refine w_getF F (fN3 _ (by omega) (by omega)) (by omega) rfl in_X2 (by decide) (Or.inr q122) dX1_add_193 ?_
    refine w_top (z' := T' 2 j1) (by rw [gu_f (by decide), gu_f (by decide)]; exact m3) ?_
    refine w_putF F (fN3 _ (by omega) (by omega)) (by omega) rfl in_X2 tyX2 tyX2_ok nmX2 (by decide) (Or.inr q122) rfl rfl rfl (by first | assumption | exact inR0 | exact (hR _ _ _).1 | (constructor <;> omega)) (noB rfl) (noP rfl) dX1_add_196 ?_
    refine w_aload F dX1_add_199 rfl rfl ?_
    refine w_aload F dX1_add_201 rfl rfl ?_
    refine w_getF F (fN4 _ (by omega) (by omega)) (by omega) rfl in_X2 (by decide) (Or.inr q125) dX1_add_203 ?_
    refine w_top (z' := (j1 : Int)) (by rw [gu_f (by decide), gu_f (by decide), gu_f (by decide)]; exact m4) ?_
    refine w_putF F (fN4 _ (by omega) (by omega)) (by omega) rfl in_X2 tyX2 tyX2_ok nmX2 (by decide) (Or.inr q125) rfl rfl rfl (by first | assumption | exact inR0 | exact (hR _ _ _).1 | (constructor <;> omega)) (noB rfl) (noP rfl) dX1_add_206 ?_
    refine w_aload F dX1_add_209 rfl rfl ?_
    refine w_iconst F dX1_add_211 ?_
    refine w_putF F (fN6 _ (by omega) (by omega)) (by omega) rfl in_X2 tyX2 tyX2_ok nmX2 (by decide) (Or.inr q129) rfl rfl rfl (by first | assumption | exact inR0 | exact (hR _ _ _).1 | (constructor <;> omega)) (noB rfl) (noP rfl) dX1_add_212 ?_
    obtain ⟨g4, hg4⟩ : ∃ z, z = gu (gu (gu (gu (gu g3 (2 + k) 21 y (x1 : Int)) (2 + k) 22 y (x2 : Int)) (2 + k) 23 y (T' 2 j1)) (2 + k) 24 y (j1 : Int)) (2 + k) 26 y 2 := ⟨_, rfl⟩
    rw [← hg4]
    have o4 : OffS k (fun f i => 21 ≤ f ∧ f ≤ 26 ∧ f ≠ 25 ∧ i = y) g3 g4 := by rw [hg4]; exact ((((OffS.rf.up (by omega)).up (by omega)).up (by omega)).up (by omega)).up (by omega)
    have e25 : g4 (2 + k) 25 y = bst (rkT T') S' [q] := by
      rw [o4.s (by omega), a12.s (by omega)]
      exact l7
    have hS'j : S' j = false := by
      cases hs : S' j with
      | false => rfl
      | true => rw [a1.2.2.2.2.1 j hs] at hS0j; cases hS0j
    have r4 : RC T' (g4 (2 + k)) (.branch (keyT T' j1) (.leaf j1) (.leaf j2)) y S' [y, x1, x2] := by
      refine RC.two hS'j (by omega) hy hx1 hx2 (by rw [hg4]; simp [gu]) (by rw [hg4]; simp [gu]) (by rw [hg4]; simp [gu]) (by rw [hg4]; simp [gu]) (by rw [hg4]; simp [gu]) e25 hj1.1 hj1.2 (a9.cg (fun z hz f q1 q2 => o4.s (fun w => ?_))) (a10.cg (fun z hz f q1 q2 => o4.s (fun w => ?_)))
      · have : z = x1 := by simpa using hz
        omega
      · have : z = x2 := by simpa using hz
        omega
    have hins : insT (keyT T') j (.leaf q) = .branch (keyT T' j1) (.leaf j1) (.leaf j2) := by
      simp only [insT]
      rcases a5 with ⟨e1, e2, e3⟩ | ⟨e1, e2, e3⟩
      · rw [if_pos e3, e1, e2]
      · rw [if_neg e3, e1, e2]
    have hnz : ∀ z ∈ pre ++ post', z ∈ ns ∧ z ≠ y := fun z hz => by
      have hn := a1.2.1
      rw [eu] at hn
      have hn' := nd_mid (r := []) hn
      rcases List.mem_append.mp hz with w | w
      · exact ⟨by rw [a2]; exact List.mem_append_left _ (List.mem_append_left _ w), fun e => hn'.1 (e ▸ w)⟩
      · exact ⟨by rw [a2]; exact List.mem_append_right _ w, fun e => hn'.2.2 (e ▸ w)⟩
    have hsm : ∀ z ∈ pre ++ post', SmN (g (2 + k)) (g4 (2 + k)) z := fun z hz f q1 q2 => by
      obtain ⟨w1, w2⟩ := hnz z hz
      rw [o4.s (fun w => w2 w.2.2.2), a12.s (fun w => by
        rcases w with w | w
        · omega
        · rcases w.2.2 with w | w
          · exact a7 (w ▸ w1)
          · exact a8 (List.mem_cons_of_mem _ (w ▸ w1)))]
    have hpa4 : PaOk (g4 (2 + k)) pa y := by
      have h0 := a1.2.2.1
      rcases pa with _ | ⟨p, dd⟩
      · exact trivial
      · have hpp := a1.2.2.2.2.2.2 p dd rfl
        have hs := hsm p (List.mem_append_left _ hpp)
        cases dd with
        | true => show g4 (2 + k) 21 p = _; rw [hs 21 (by omega) (by omega)]; exact h0
        | false => show g4 (2 + k) 22 p = _ ∧ ∃ z : Nat, z < 23 ∧ g4 (2 + k) 21 p = _ ∧ z ≠ _; rw [hs 22 (by omega) (by omega), hs 21 (by omega) (by omega)]; exact h0
    have hput := a1.put (σ1 := g4 (2 + k)) (σ2 := g4 (2 + k)) (u' := .branch (keyT T' j1) (.leaf j1) (.leaf j2)) (y' := y) r4 (by simp [n1, n2, n12]) (fun z hz => by
      simp at hz
      refine ⟨fun w => ?_, fun w => ?_⟩
      · obtain ⟨w1, w2⟩ := hnz z (List.mem_append_left _ w)
        rcases hz with e | e | e
        · exact w2 e
        · exact a7 (e ▸ w1)
        · exact a8 (List.mem_cons_of_mem _ (e ▸ w1))
      · obtain ⟨w1, w2⟩ := hnz z (List.mem_append_right _ w)
        rcases hz with e | e | e
        · exact w2 e
        · exact a7 (e ▸ w1)
        · exact a8 (List.mem_cons_of_mem _ (e ▸ w1))) hsm (by simp [tl]) (fun i hi => by
      have hij : i ≠ j := fun e => by rw [e, hS0j] at hi; cases hi
      simp only [tl, List.mem_append, List.mem_singleton]
      omega) (fun f z q1 q2 => hpa4.same (z := z) f q1 q2)
    have hxx : (if pa = none then y else x) = x := by
      split
      · rename_i w; exact a1.2.2.2.1 w
      · rfl
    rw [hxx, ← hins, ← a3] at hput
    obtain ⟨rP, dP⟩ := hput
    have hroot4 : g4 (2 + k) 2 0 = (x : Int) := by rw [o4.s (by omega), a12.s (by omega), a4.s (by omega)]; exact hroot1
    have hJ4 : ∀ i, JC T' (g1 (2 + k)) i → JC T' (g4 (2 + k)) i := fun i h0 => ((h0.off a4 (fun f z w => by omega)).off a12 (fun f z w => by omega)).off o4 (fun f z w => by omega)
    have hJI : ∀ i ∈ tl (insT (keyT T') j t), JC T' (g4 (2 + k)) i := fun i hi => by
      rcases (hI.2.1 i).mp hi with e | e
      · rw [e]; exact hJ4 j hJj
      · exact hJ4 i (hJt i e)
    have hNI := (ord_srt hI.1).nd
    have hnnI := nn_23 rP dP
    have hU4 : UsC (g4 (2 + k)) (pre ++ [y, x1, x2] ++ post') := a11.cg (o4.s (by omega)) dP (fun z => by
      rw [a2, eu]
      simp only [List.mem_cons, List.mem_append, List.mem_nil_iff, or_false]
      constructor
      · rintro (w | w | (w | w) | w)
        · exact Or.inl (Or.inr (Or.inr (Or.inr w)))
        · exact Or.inl (Or.inr (Or.inr (Or.inl w)))
        · exact Or.inl (Or.inl w)
        · exact Or.inl (Or.inr (Or.inl w))
        · exact Or.inr w
      · rintro ((w | w | w | w) | w)
        · exact Or.inr (Or.inr (Or.inl (Or.inl w)))
        · exact Or.inr (Or.inr (Or.inl (Or.inr w)))
        · exact Or.inr (Or.inl w)
        · exact Or.inl w
        · exact Or.inr (Or.inr (Or.inr w)))
    refine w_aload_n F dX1_add_215 rfl rfl ?_
    refine w_aload_n F dX1_add_216 rfl rfl ?_
    refine w_getF F (fS2 _ (by omega)) (by omega) rfl in_X1 (by decide) (Or.inl q151) dX1_add_217 ?_
    refine w_toN hroot4 ?_
    refine w_iload F dX1_add_220 rfl ?_
    refine w_callV F (As := [_, _]) (ct_push hE hA hk (insT (keyT T') j t) x S0 _ j g4 rP dP hI.1 hNI hJI ((hI.2.1 j).mpr (Or.inl rfl)) hS0j) (lw_V q439 q441 qs10 q71 q442) md_X1_push (by omega) (cell_stO (by omega)) rfl rfl rfl rfl (Nat.le_of_ble_eq_true rfl) dX1_add_222 ⟨by omega, by omega⟩ ⟨by omega, by omega⟩ ?_
    rintro _ g5 ⟨rfl, r5, o5⟩
    have hS5 : ad1 S0 j = fun _ => true := by
      funext i
      unfold ad1
      rw [hS0]
      by_cases e : i = j
      · simp [e]
      · rw [wo_oth (by omega)]; rfl
    rw [hS5] at r5
    have hSR5 : SR T' (g5 (2 + k)) (insT (keyT T') j t) (fun _ => true) := ⟨x, _, by rw [o5.s (by omega)]; exact hroot4, r5, dP, hU4.cg (o5.s (by omega)) dP (fun _ => Iff.rfl)⟩
    refine w_aload_n F dX1_add_225 rfl rfl ?_
    refine w_iload_n F dX1_add_226 rfl ?_
    refine w_iload F dX1_add_227 rfl ?_
    rw [← hT1.2.1]
    refine w_callV F (As := [_, _]) (ct_levelS hE hA g5 hk hSR5 hI.1 hNI (fun i hi => (hJI i hi).off o5 (fun f z w => by omega)) f1 hjt1) (lw_V q499 q501 qs11 q71 q502) md_X1_level (by omega) (cell_stO (by omega)) rfl rfl rfl rfl (Nat.le_of_ble_eq_true rfl) dX1_add_229 ⟨by omega, by omega⟩ ⟨by omega, by omega⟩ ?_
    rintro _ g6 ⟨rfl, s6, o6⟩
    have hfin : SV (g6 (2 + k)) (b ||| 2 ^ j, T', (levT (keyT T') (keyT T' j) (insT (keyT T') j t)).1) := by
      refine ⟨?_, s6, fun i hi => ?_⟩
      · rw [o6.s (by unfold offW; omega), o5.s (by omega), o4.s (by omega), a12.s (by omega), a4.s (by omega), hg1, gu_s]
      · have hJi : JC T' (g1 (2 + k)) i := by
          have hi' : (b ||| 2 ^ j).testBit i = true := hi
          rw [or_bit] at hi'
          by_cases e : i = j
          · rw [e]; exact hJj
          · refine hJt i ((hV.2.1.1 i).mpr ?_)
            simpa [Ne.symm e] using hi'
        exact (((hJ4 i hJi).off o5 (fun f z w => by omega)).ofW o6).2.1
    exact w_iret F (by omega) (by omega) (⟨rfl, hfin, (((((o1.only).tr a4.only).tr a12.only).tr o4.only).tr o5.only).tr o6.only⟩) dX1_add_232
  have loop : ∀ (u : TT) (g : GG) (y : Nat) (S' : Nat → Bool) (nu : List Nat) (C : TT → TT) (pre post' : List Nat) (pa : Option (Nat × Bool)), Foc T' (g (2 + k)) 1 x S0 C pre post' pa u y S' nu → ns = pre ++ nu ++ post' → insT (keyT T') j t = C (insT (keyT T') j u) → OffS k (fun f _ => f = 26) g1 g → (∀ i ∈ tl u, i ∈ tl t) → (tl u).length ≤ 11 → Wg Φ 11 g 0 0 90 [(0, .ref (Φ.E.ad (11 + 31 * k))), (2, .int (iI s)), (5, .int (iI (j : Int))), (6, .ref (Φ.E.ad (19 + 31 * k + y)))] [] := by
    intro u
    induction u with
    | leaf q =>
      intro g y S' nu C pre post' pa a1 a2 a3 a4 a6 a8
      have hy := a1.1.lt
      have hq := a6 q (by simp [tl])
      obtain ⟨eu, _, l2, l3, l4, l5, l6, l7⟩ := id a1.1
      have hJq := hJt q hq
      have hq12 := hJq.1
      have hUg : UsC (g (2 + k)) ns := hU1.cg (a4.s (by omega)) hnd (fun _ => Iff.rfl)
      have hns : ns.length ≤ 21 := by
        have := r1.len
        omega
      have hJg : ∀ i, JC T' (g1 (2 + k)) i → JC T' (g (2 + k)) i := fun i h0 => h0.off a4 (fun f z w => by omega)
      have hgl : gl g k y s (j : Int) ↔ keyT T' j ≤ keyT T' q := by
        have := hJq.2.2.2.1
        have h9 := hJj.2.2.2.1
        unfold gl
        rw [l4, l5]
        unfold keyT
        rw [hT1.2.1]
        omega
      refine w_aload F dX1_add_90 rfl rfl ?_
      refine w_callV F (As := []) (ct_isLeafN hE g hk hy) (lw_V q422 q423 q424 q72 q425) md_X2_isLeaf (by omega) (cell_nd (by omega) (by omega)) rfl rfl rfl rfl (Nat.le_of_ble_eq_true rfl) dX1_add_92 ⟨by omega, by omega⟩ ⟨by omega, by omega⟩ ?_
      rintro _ _ ⟨rfl, rfl⟩
      refine w_if_ne F (tgt := 122) dX1_add_95 (by decide) (b2i_R _) (fun h => ?_) (fun h => ?_)
      · refine w_aload F dX1_add_122 rfl rfl ?_
        refine w_getF F (fN4 _ (by omega) (by omega)) (by omega) rfl in_X2 (by decide) (Or.inr q125) dX1_add_124 ?_
        refine w_top l5 ?_
        refine w_istore F dX1_add_127 (by decide) rfl (lv' := [(0, _), (2, _), (5, _), (6, _), (7, _)]) rfl ?_
        refine w_aload F dX1_add_129 rfl rfl ?_
        refine w_iload_n F dX1_add_131 rfl ?_
        refine w_iload F dX1_add_132 rfl ?_
        refine w_callV F (As := [_, _]) (ct_goesLeft hE g hk hy (s := s) (j := (j : Int)) (by omega) (by omega)) (lw_V q438 q435 q436 q72 q437) md_X2_goesLeft (by omega) (cell_nd (by omega) (by omega)) rfl rfl rfl rfl (Nat.le_of_ble_eq_true rfl) dX1_add_134 ⟨by omega, by omega⟩ ⟨by omega, by omega⟩ ?_
        rintro _ _ ⟨rfl, rfl⟩
        by_cases hc2 : gl g k y s (j : Int)
        · rw [b2i_t hc2]
          refine w_istore F dX1_add_137 (by decide) rfl (lv' := [(0, _), (2, _), (5, _), (6, _), (7, _), (8, _)]) rfl ?_
          refine w_aload_n F dX1_add_139 rfl rfl ?_
          refine w_iload F dX1_add_140 rfl ?_
          refine w_if_eq F (tgt := 150) dX1_add_142 (by decide) (by first | assumption | exact inR0 | exact (hR _ _ _).1 | (constructor <;> omega)) (fun h5 => ?_) (fun h5 => ?_)
          · omega
          · refine w_iload F dX1_add_145 rfl ?_
            refine w_goto F (tgt := 152) dX1_add_147 (by decide) ?_
            refine w_callV F (As := [_]) (ct_leafS hE g hk (hJg j hJj) hUg (by omega)) (lw_V q418 q420 qs8 q71 q421) md_X1_leaf (by omega) (cell_stO (by omega)) rfl rfl rfl rfl (Nat.le_of_ble_eq_true rfl) dX1_add_152 ⟨by omega, by omega⟩ ⟨by omega, by omega⟩ ?_
            rintro _ g2 ⟨x1, hx1, n1, rfl, s1, us1, os1⟩
            refine w_astore F dX1_add_155 (by decide) rfl (lv' := [(0, _), (2, _), (5, _), (6, _), (7, _), (8, _), (9, _)]) rfl rfl ?_
            refine w_aload_n F dX1_add_157 rfl rfl ?_
            refine w_iload F dX1_add_158 rfl ?_
            refine w_if_eq F (tgt := 168) dX1_add_160 (by decide) (by first | assumption | exact inR0 | exact (hR _ _ _).1 | (constructor <;> omega)) (fun h6 => ?_) (fun h6 => ?_)
            · omega
            · refine w_iload F dX1_add_163 rfl ?_
              refine w_goto F (tgt := 170) dX1_add_165 (by decide) ?_
              refine w_callV F (As := [_]) (ct_leafS hE g2 hk ((hJg q hJq).off os1 (fun f z w => by omega)) us1 (by simp; omega)) (lw_V q418 q420 qs8 q71 q421) md_X1_leaf (by omega) (cell_stO (by omega)) rfl rfl rfl rfl (Nat.le_of_ble_eq_true rfl) dX1_add_170 ⟨by omega, by omega⟩ ⟨by omega, by omega⟩ ?_
              rintro _ g3 ⟨x2, hx2, n2, rfl, s2, us2, os2⟩
              refine w_astore F dX1_add_173 (by decide) rfl (lv' := [(0, _), (2, _), (5, _), (6, _), (7, _), (8, _), (9, _), (10, _)]) rfl rfl ?_
              refine w_keep [0, 2, 5, 6, 9, 10] (lv' := [(0, _), (2, _), (5, _), (6, _), (9, _), (10, _)]) rfl ?_
              refine tail g (.leaf q) q y j q x1 x2 S' nu C pre post' pa g3 a1 a2 a3 a4 (Or.inl ⟨rfl, rfl, hgl.mp hc2⟩) hq n1 n2 (s1.cg (fun z hz f q1 q2 => os2.s (fun w => ?_))) s2 us2 ((os1.mono (fun f i w => ?_)).tr (os2.mono (fun f i w => ?_)))
              · have : z = x1 := by simpa using hz
                rcases w with w | w
                · omega
                · exact n2 (by rw [← w.2.2, this]; exact List.mem_cons_self)
              · omega
              · omega
        · rw [b2i_f hc2]
          refine w_istore F dX1_add_137 (by decide) rfl (lv' := [(0, _), (2, _), (5, _), (6, _), (7, _), (8, _)]) rfl ?_
          refine w_aload_n F dX1_add_139 rfl rfl ?_
          refine w_iload F dX1_add_140 rfl ?_
          refine w_if_eq F (tgt := 150) dX1_add_142 (by decide) (by first | assumption | exact inR0 | exact (hR _ _ _).1 | (constructor <;> omega)) (fun h5 => ?_) (fun h5 => ?_)
          · refine w_iload F dX1_add_150 rfl ?_
            refine w_callV F (As := [_]) (ct_leafS hE g hk (hJg q hJq) hUg (by omega)) (lw_V q418 q420 qs8 q71 q421) md_X1_leaf (by omega) (cell_stO (by omega)) rfl rfl rfl rfl (Nat.le_of_ble_eq_true rfl) dX1_add_152 ⟨by omega, by omega⟩ ⟨by omega, by omega⟩ ?_
            rintro _ g2 ⟨x1, hx1, n1, rfl, s1, us1, os1⟩
            refine w_astore F dX1_add_155 (by decide) rfl (lv' := [(0, _), (2, _), (5, _), (6, _), (7, _), (8, _), (9, _)]) rfl rfl ?_
            refine w_aload_n F dX1_add_157 rfl rfl ?_
            refine w_iload F dX1_add_158 rfl ?_
            refine w_if_eq F (tgt := 168) dX1_add_160 (by decide) (by first | assumption | exact inR0 | exact (hR _ _ _).1 | (constructor <;> omega)) (fun h6 => ?_) (fun h6 => ?_)
            · refine w_iload F dX1_add_168 rfl ?_
              refine w_callV F (As := [_]) (ct_leafS hE g2 hk ((hJg j hJj).off os1 (fun f z w => by omega)) us1 (by simp; omega)) (lw_V q418 q420 qs8 q71 q421) md_X1_leaf (by omega) (cell_stO (by omega)) rfl rfl rfl rfl (Nat.le_of_ble_eq_true rfl) dX1_add_170 ⟨by omega, by omega⟩ ⟨by omega, by omega⟩ ?_
              rintro _ g3 ⟨x2, hx2, n2, rfl, s2, us2, os2⟩
              refine w_astore F dX1_add_173 (by decide) rfl (lv' := [(0, _), (2, _), (5, _), (6, _), (7, _), (8, _), (9, _), (10, _)]) rfl rfl ?_
              refine w_keep [0, 2, 5, 6, 9, 10] (lv' := [(0, _), (2, _), (5, _), (6, _), (9, _), (10, _)]) rfl ?_
              refine tail g (.leaf q) q y q j x1 x2 S' nu C pre post' pa g3 a1 a2 a3 a4 (Or.inr ⟨rfl, rfl, fun w => hc2 (hgl.mpr w)⟩) hq n1 n2 (s1.cg (fun z hz f q1 q2 => os2.s (fun w => ?_))) s2 us2 ((os1.mono (fun f i w => ?_)).tr (os2.mono (fun f i w => ?_)))
              · have : z = x1 := by simpa using hz
                rcases w with w | w
                · omega
                · exact n2 (by rw [← w.2.2, this]; exact List.mem_cons_self)
              · omega
              · omega
            · omega
          · omega
      · rw [b2i_0] at h
        omega
    | branch sp a b' iha ihb =>
      intro g y S' nu C pre post' pa a1 a2 a3 a4 a6 a8
      have hy := a1.1.lt
      obtain ⟨xa, xb, na, nb, e, h1, h2, h3, h4, h5, h6, h7, h8⟩ := id a1.1
      have hJg : JC T' (g (2 + k)) j := hJj.off a4 (fun f z w => by omega)
      have hll : (tl (.branch sp a b')).length = (tl a).length + (tl b').length := by simp [tl]
      have hpa := tl_pos a
      have hpb := tl_pos b'
      refine w_aload F dX1_add_90 rfl rfl ?_
      refine w_callV F (As := []) (ct_isLeafN hE g hk hy) (lw_V q422 q423 q424 q72 q425) md_X2_isLeaf (by omega) (cell_nd (by omega) (by omega)) rfl rfl rfl rfl (Nat.le_of_ble_eq_true rfl) dX1_add_92 ⟨by omega, by omega⟩ ⟨by omega, by omega⟩ ?_
      rintro _ _ ⟨rfl, rfl⟩
      refine w_if_ne F (tgt := 122) dX1_add_95 (by decide) (b2i_R _) (fun h => ?_) (fun h => ?_)
      · rw [b2i_n0] at h
        omega
      · refine w_aload F dX1_add_98 rfl rfl ?_
        refine w_dup F dX1_add_100 rfl ?_
        refine w_getF F (fN6 _ (by omega) (by omega)) (by omega) rfl in_X2 (by decide) (Or.inr q129) dX1_add_101 ?_
        refine w_top h5 ?_
        refine w_iconst F dX1_add_104 ?_
        refine w_iadd F dX1_add_105 ?_
        refine w_putF F (fN6 _ (by omega) (by omega)) (by omega) rfl in_X2 tyX2 tyX2_ok nmX2 (by decide) (Or.inr q129) rfl rfl rfl (by first | assumption | exact inR0 | exact (hR _ _ _).1 | (constructor <;> omega)) (noB rfl) (noP rfl) dX1_add_106 ?_
        refine w_aload_n F dX1_add_109 rfl rfl ?_
        refine w_aload F dX1_add_110 rfl rfl ?_
        refine w_iload F dX1_add_112 rfl ?_
        obtain ⟨g2, hg2⟩ : ∃ z, z = gu g (2 + k) 26 y (((tl a).length : Int) + ((tl b').length : Int) + 1) := ⟨_, rfl⟩
        rw [← hg2]
        have o2 : OffS k (fun f _ => f = 26) g g2 := by rw [hg2]; exact OffS.rf.up rfl
        have hJg2 := hJg.off o2 (fun f z w => by omega)
        have hgl := gl_key (γ := g2) (k := k) (x := y) (T := T') (s := sp) (j := j) (by rw [o2.s (by omega), o2.s (by omega)]; exact h4) f1 hJj.2.2.2.1.1
        have e1 : g2 (2 + k) 26 y = g (2 + k) 26 y + 1 := by rw [hg2, gu_s, h5]
        have e2 : ∀ f z, ¬ (f = 26 ∧ z = y) → g2 (2 + k) f z = g (2 + k) f z := fun f z w => by rw [hg2]; exact gu_n (fun q => w ⟨q.2.1, q.2.2⟩)
        refine w_callV F (As := [_, _]) (ct_partS hE g2 hk hy hJg2) (lw_V q426 q428 qs9 q71 q429) md_X1_part (by omega) (cell_stO (by omega)) rfl rfl rfl rfl (Nat.le_of_ble_eq_true rfl) dX1_add_114 ⟨by omega, by omega⟩ ⟨by omega, by omega⟩ ?_
        rintro _ _ ⟨rfl, rfl⟩
        by_cases hc2 : keyT T' j ≤ sp
        · rw [if_pos (hgl.mpr hc2), o2.s (by omega)]
          refine w_toN h2 ?_
          refine w_astore F dX1_add_117 (by decide) rfl (lv' := [(0, _), (2, _), (5, _), (6, _)]) rfl rfl ?_
          refine w_goto F (tgt := 90) dX1_add_119 (by decide) ?_
          have hF := a1.left (σ2 := g2 (2 + k)) e h1 h2 h3 h4 h5 h6 h7 h8 e1 e2
          exact iha g2 xa _ na _ _ _ (some (y, true)) hF (by rw [a2, e]; simp) (by rw [a3]; simp only [insT]; rw [if_pos hc2]) (a4.tr o2) (fun i hi => a6 i (List.mem_append_left _ hi)) (by omega)
        · rw [if_neg (fun q => hc2 (hgl.mp q)), o2.s (by omega)]
          refine w_toN h3 ?_
          refine w_astore F dX1_add_117 (by decide) rfl (lv' := [(0, _), (2, _), (5, _), (6, _)]) rfl rfl ?_
          refine w_goto F (tgt := 90) dX1_add_119 (by decide) ?_
          have hF := a1.right (σ2 := g2 (2 + k)) e h1 h2 h3 h4 h5 h6 h7 h8 e1 e2
          exact ihb g2 xb _ nb _ _ _ (some (y, false)) hF (by rw [a2, e]; simp) (by rw [a3]; simp only [insT]; rw [if_neg hc2]) (a4.tr o2) (fun i hi => a6 i (List.mem_append_right _ hi)) (by omega)
  refine w_aload_n F dX1_add_56 rfl rfl ?_
  refine w_getF F (fS2 _ (by omega)) (by omega) rfl in_X1 (by decide) (Or.inl q151) dX1_add_57 ?_
  refine w_ifnonnull F (tgt := 84) dX1_add_60 (by decide)  (fun h => ?_) (fun h => ?_)
  · refine w_aload_n F dX1_add_84 rfl rfl ?_
    refine w_getF F (fS2 _ (by omega)) (by omega) rfl in_X1 (by decide) (Or.inl q151) dX1_add_85 ?_
    refine w_toN hroot1 ?_
    refine w_astore F dX1_add_88 (by decide) rfl (lv' := [(0, _), (1, _), (2, _), (3, _), (4, _), (5, _), (6, _)]) rfl rfl ?_
    refine w_keep [0, 2, 5, 6] (lv' := [(0, _), (2, _), (5, _), (6, _)]) rfl ?_
    exact loop t g1 x S0 ns (fun u => u) [] [] none (Foc.top r1 hnd) (by simp) rfl OffS.rf (fun i hi => hi) htlen
  · omega
end S8
