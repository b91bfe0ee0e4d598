/-! the model: job, holdNone -/
def isJobP (b : Nat) (j : Int) : Prop := 0 ≤ j ∧ j ≤ 11 ∧ b.testBit j.toNat = true
/-- what job answers -/
def qJob (v : VV) (j : Nat) (w : Int) : Int := if w = 0 then v.2.1 1 j else if w = 1 then v.2.1 2 j else if w = 2 then v.2.1 3 j else if w = 3 then v.2.1 4 j else if w = 4 then rkT v.2.1 j else if w = 5 then (dph (rkT v.2.1) (keyT v.2.1 j) j v.2.2 (fun _ => true) : Int) else (dpt (keyT v.2.1 j) v.2.2 : Int)
theorem rkT_cg {σ T : Nat → Nat → Int} {j : Nat} (h : ∀ f, 1 ≤ f → f ≤ 4 → σ f j = T f j) : rkT σ j = rkT T j := by
  unfold rkT
  rw [h 1 (by omega) (by omega), h 3 (by omega) (by omega), h 4 (by omega) (by omega)]
theorem dph_cg {R R' : Nat → Int} {k j : Nat} : ∀ (t : TT) {S : Nat → Bool}, (∀ i ∈ tl t, R i = R' i) → dph R k j t S = dph R' k j t S
  | .leaf _, _, _ => rfl
  | .branch s a b, S, h => by
    have e : bst R S (tl a ++ tl b) = bst R' S (tl a ++ tl b) := bst_cg h (fun _ _ => rfl)
    simp only [dph]
    rw [e, dph_cg a (fun i hi => h i (List.mem_append_left _ hi)), dph_cg b (fun i hi => h i (List.mem_append_right _ hi))]
/-- what the model's value gives: root, nodes, ranges -/
theorem MV.get {σ : Nat → Nat → Int} {v : VV} (h : MV σ v.1 v.2.1 v.2.2) (hV : VOk v) : ∃ (r : Nat) (ns : List Nat), σ 5 0 = (r : Int) ∧ RepM σ v.2.2 r ns ∧ UsM σ ns ∧ (∀ j ∈ tl v.2.2, JR σ j) ∧ (∀ j ∈ tl v.2.2, rkT σ j = rkT v.2.1 j) ∧ (tl v.2.2).length ≤ 12 := by
  obtain ⟨a1, ⟨r, ns, a2, a3, a4⟩, a5⟩ := h
  refine ⟨r, ns, a2, a3, a4, fun j hj => ?_, fun j hj => ?_, hV.2.1.len hV.1.1⟩
  · have hb := (hV.2.1.1 j).mp hj
    have hr := hV.1.2 j hb
    refine ⟨tb12 hV.1.1 hb, ?_, ?_⟩
    · rw [a5 j hb 3 (by omega) (by omega)]
      omega
    · rw [a5 j hb 4 (by omega) (by omega)]
      omega
  · exact rkT_cg (a5 j ((hV.2.1.1 j).mp hj))
/-- how many nodes hold none -/
def nNone (H : List Int) : Nat := H.countP (fun v => decide (v = -4))
section M18
variable {l : Launch} {E : EE}
theorem ct_jobM (hE : EOk E) (hm : 438 ≤ E.nk) (γ : GG) {v : VV} (hM : MV (γ 0) v.1 v.2.1 v.2.2) (hV : VOk v) {j w : Int} (hj : InR j) (hw : InR w) : Ct l yX8_job cX8_job 3 (some .int) E 700 40000 [.ref (E.ad 414), .int (iI j), .int (iI w)] γ (fun r g => Off0 [12, 13, 16, 17, 18] γ g ∧ ((¬ (isJobP v.1 j ∧ 0 ≤ w ∧ w ≤ 6) ∧ r = some (.int (iI (-1)))) ∨ (isJobP v.1 j ∧ (0 ≤ w ∧ w ≤ 6) ∧ r = some (.int (iI (qJob v j.toNat w)))))) 0 0 := by
  refine Ct.of hE (by decide) (Nat.le_of_ble_eq_true rfl) (fun Φ hLn hΦ F hfr hlo => ?_)
  subst hLn; subst hΦ
  have h414 := F.ok.1.2.2
  have hrc := F.rc
  have hrs := F.rs
  show Wg Φ 3 _ 0 0 0 [(0, _), (1, _), (2, _)] []
  refine w_rng (fun hR => ?_)
  have hb : γ 0 0 0 = (v.1 : Int) := hM.1
  have hb2 := hV.1.1
  obtain ⟨r, ns, g1, g2, g3, g4, g5, g6⟩ := hM.get hV
  refine w_aload_n F dX8_job_0 rfl rfl ?_
  refine w_iload_n F dX8_job_1 rfl ?_
  refine w_callV F (As := [_]) (ct_isJob hE hm γ hb hb2 hj) (lw_V q976 q978 qs45 q88 q979) md_X8_isJob (by omega) cell_mdO rfl rfl rfl rfl (Nat.le_of_ble_eq_true rfl) dX8_job_2 ⟨by omega, by omega⟩ ⟨by omega, by omega⟩ ?_
  rintro _ _ ⟨rfl, rfl⟩
  refine w_if_eq F (tgt := 18) dX8_job_5 (by decide) (b2i_R _) (fun h => ?_) (fun h => ?_)
  · rw [b2i_0] at h
    refine w_iconst F dX8_job_18 ?_
    exact w_iret F (by omega) (by omega) (⟨Off0.rf, Or.inl ⟨fun q => h q.1, rfl⟩⟩) dX8_job_19
  · rw [b2i_n0] at h
    obtain ⟨i, rfl⟩ : ∃ i : Nat, j = (i : Int) := ⟨j.toNat, by omega⟩
    have hi : v.1.testBit i = true := by simpa using h.2.2
    have hit : i ∈ tl v.2.2 := (hV.2.1.1 i).mpr hi
    have hT := hM.2.2 i hi
    have hi12 := tb12 hb2 hi
    refine w_iload_n F dX8_job_8 rfl ?_
    refine w_iconst F dX8_job_9 ?_
    refine w_bipush F dX8_job_10 rfl ?_
    refine w_callS F (As := [_, _, _]) (ct_in hE γ hw inR0 (by decide)) (lw_S q980 q981 q88 q982) md_X8_in rfl rfl (Nat.le_of_ble_eq_true rfl) dX8_job_12 ⟨by omega, by omega⟩ ⟨by omega, by omega⟩ ?_
    rintro _ _ ⟨rfl, rfl⟩
    refine w_if_ne F (tgt := 20) dX8_job_15 (by decide) (b2i_R _) (fun h2 => ?_) (fun h2 => ?_)
    · rw [b2i_n0] at h2
      have hans : ∀ (z : Int) (g : GG), Off0 [12, 13, 16, 17, 18] γ g → z = qJob v i w → Off0 [12, 13, 16, 17, 18] γ g ∧ ((¬ (isJobP v.1 (i : Int) ∧ 0 ≤ w ∧ w ≤ 6) ∧ some (Value.int (iI z)) = some (.int (iI (-1)))) ∨ (isJobP v.1 (i : Int) ∧ (0 ≤ w ∧ w ≤ 6) ∧ some (Value.int (iI z)) = some (.int (iI (qJob v (i : Int).toNat w))))) := fun z g o e => ⟨o, Or.inr ⟨h, h2, by rw [e]; simp⟩⟩
      refine w_iload_n F dX8_job_20 rfl ?_
      rcases (show w = 0 ∨ w = 1 ∨ w = 2 ∨ w = 3 ∨ w = 4 ∨ w = 5 ∨ w = 6 by omega) with rfl | rfl | rfl | rfl | rfl | rfl | rfl
      · skip
        refine w_tabIn F (z := 0) (tgt := 60) dX8_job_21 (by first | assumption | exact inR0 | exact (hR _ _ _).1 | (constructor <;> omega)) (by decide) (by decide) rfl (by decide) ?_
        refine w_aload_n F dX8_job_60 rfl rfl ?_
        refine w_get F (by omega) cell_mdO rfl in_X8 1 (by decide) (Or.inl q873) rfl dX8_job_61 ?_
        refine w_iload_n F dX8_job_64 rfl ?_
        first | refine w_ialdN F (aM1 _) (by omega) (by decide) (by omega) dX8_job_65 ?_ | refine w_iald F (aM1 _) (by omega) (by decide) (by omega) (by omega) dX8_job_65 ?_
        exact w_iret F (by omega) (by omega) (hans _ _ Off0.rf (by rw [hT 1 (by omega) (by omega)]; rfl)) dX8_job_66
      · skip
        refine w_tabIn F (z := 1) (tgt := 67) dX8_job_21 (by first | assumption | exact inR0 | exact (hR _ _ _).1 | (constructor <;> omega)) (by decide) (by decide) rfl (by decide) ?_
        refine w_aload_n F dX8_job_67 rfl rfl ?_
        refine w_get F (by omega) cell_mdO rfl in_X8 2 (by decide) (Or.inl q874) rfl dX8_job_68 ?_
        refine w_iload_n F dX8_job_71 rfl ?_
        first | refine w_ialdN F (aM2 _) (by omega) (by decide) (by omega) dX8_job_72 ?_ | refine w_iald F (aM2 _) (by omega) (by decide) (by omega) (by omega) dX8_job_72 ?_
        exact w_iret F (by omega) (by omega) (hans _ _ Off0.rf (by rw [hT 2 (by omega) (by omega)]; rfl)) dX8_job_73
      · skip
        refine w_tabIn F (z := 2) (tgt := 74) dX8_job_21 (by first | assumption | exact inR0 | exact (hR _ _ _).1 | (constructor <;> omega)) (by decide) (by decide) rfl (by decide) ?_
        refine w_aload_n F dX8_job_74 rfl rfl ?_
        refine w_get F (by omega) cell_mdO rfl in_X8 3 (by decide) (Or.inl q875) rfl dX8_job_75 ?_
        refine w_iload_n F dX8_job_78 rfl ?_
        first | refine w_ialdN F (aM3 _) (by omega) (by decide) (by omega) dX8_job_79 ?_ | refine w_iald F (aM3 _) (by omega) (by decide) (by omega) (by omega) dX8_job_79 ?_
        exact w_iret F (by omega) (by omega) (hans _ _ Off0.rf (by rw [hT 3 (by omega) (by omega)]; rfl)) dX8_job_80
      · skip
        refine w_tabIn F (z := 3) (tgt := 81) dX8_job_21 (by first | assumption | exact inR0 | exact (hR _ _ _).1 | (constructor <;> omega)) (by decide) (by decide) rfl (by decide) ?_
        refine w_aload_n F dX8_job_81 rfl rfl ?_
        refine w_get F (by omega) cell_mdO rfl in_X8 4 (by decide) (Or.inl q876) rfl dX8_job_82 ?_
        refine w_iload_n F dX8_job_85 rfl ?_
        first | refine w_ialdN F (aM4 _) (by omega) (by decide) (by omega) dX8_job_86 ?_ | refine w_iald F (aM4 _) (by omega) (by decide) (by omega) (by omega) dX8_job_86 ?_
        exact w_iret F (by omega) (by omega) (hans _ _ Off0.rf (by rw [hT 4 (by omega) (by omega)]; rfl)) dX8_job_87
      · skip
        refine w_tabIn F (z := 4) (tgt := 88) dX8_job_21 (by first | assumption | exact inR0 | exact (hR _ _ _).1 | (constructor <;> omega)) (by decide) (by decide) rfl (by decide) ?_
        refine w_aload_n F dX8_job_88 rfl rfl ?_
        refine w_iload_n F dX8_job_89 rfl ?_
        have q := g4 i hit
        refine w_callV F (As := [_]) (ct_rank hE hm γ q.1 q.2.1.1 q.2.1.2 q.2.2.1 q.2.2.2) (lw_V q983 q985 qs46 q88 q986) md_X8_rank (by omega) cell_mdO rfl rfl rfl rfl (Nat.le_of_ble_eq_true rfl) dX8_job_90 ⟨by omega, by omega⟩ ⟨by omega, by omega⟩ ?_
        rintro _ _ ⟨rfl, rfl⟩
        exact w_iret F (by omega) (by omega) (hans _ _ Off0.rf (g5 i hit)) dX8_job_93
      · skip
        refine w_tabIn F (z := 5) (tgt := 94) dX8_job_21 (by first | assumption | exact inR0 | exact (hR _ _ _).1 | (constructor <;> omega)) (by decide) (by decide) rfl (by decide) ?_
        obtain ⟨n, y, u, nu, c2, w1, w2, w3, w4, w5, w6⟩ := wayH (R := rkT (γ 0)) (κ := keyT v.2.1) (ctx := []) (S := fun _ => true) g2 trivial hV.2.2 hit rfl
        simp only [List.append_nil, cn] at w4 w5
        have u1 : UsM (γ 0) (nu ++ cn c2) := g3.perm w5.symm
        have ha := ancC w3 w4 u1
        have hcl : c2.length ≤ 24 := by
          have := nd_len 24 _ u1.1 u1.2.1
          have h9 : c2.length ≤ (cn c2).length := by
            clear w4 w5 w6 u1 ha this
            induction c2 with
            | nil => simp
            | cons f r ih => simp [cn]; omega
          simp at this
          omega
        refine w_aload_n F dX8_job_94 rfl rfl ?_
        refine w_aload_n F dX8_job_95 rfl rfl ?_
        refine w_iload_n F dX8_job_96 rfl ?_
        refine w_callV F (As := [_]) (ct_holderOf hE hm γ g1 g2 g3.1 hV.2.1.2 g4 hit w1 w2) (lw_V q991 q993 qs48 q88 q994) md_X8_holderOf (by omega) cell_mdO rfl rfl rfl rfl (Nat.le_of_ble_eq_true rfl) dX8_job_97 ⟨by omega, by omega⟩ ⟨by omega, by omega⟩ ?_
        rintro _ g7 ⟨rfl, o7⟩
        have ha7 : Anc (g7 0) y (c2.map fun f => f.1) := by
          have e6 := o7.f 6 rfl
          have e7 := o7.f 7 rfl
          exact ancC (w3.off o7 rfl) (w4.off o7 rfl) (u1.off o7 rfl)
        refine w_callV F (As := [_]) (ct_deepOf hE hm g7 w3.lt ha7 (by simpa using hcl)) (lw_V q1007 q1009 qs52 q88 q1010) md_X8_deepOf (by omega) cell_mdO rfl rfl rfl rfl (Nat.le_of_ble_eq_true rfl) dX8_job_100 ⟨by omega, by omega⟩ ⟨by omega, by omega⟩ ?_
        rintro _ _ ⟨rfl, rfl⟩
        exact w_iret F (by omega) (by omega) (hans _ _ o7 (by rw [List.length_map, w6]; show _ = (dph (rkT v.2.1) (keyT v.2.1 i) i v.2.2 (fun _ => true) : Int); rw [dph_cg v.2.2 g5])) dX8_job_103
      · skip
        refine w_tabOut F (tgt := 104) dX8_job_21 (by first | assumption | exact inR0 | exact (hR _ _ _).1 | (constructor <;> omega)) (by omega) (by decide) ?_
        obtain ⟨x, ctx, w1, w2, w3, w4, w5, w6⟩ := way (κ := keyT v.2.1) (ctx := []) g2 trivial hV.2.2 hit (fun f hf => by cases hf)
        simp only [List.append_nil, cn] at w2 w3 w4 w5 w6
        have u1 : UsM (γ 0) ([x] ++ cn ctx) := g3.perm w6.symm
        have ha := ancC w1 w2 u1
        have hlf : lfo (γ 0) (i : Int) 24 = (x : Int) := leafOf_is g2 g3 hV.2.1.2 (w6.mem_iff.mp List.mem_cons_self) w1.2.2.1 w1.2.2.2.1
        have hd : dpt (keyT v.2.1 i) v.2.2 = ctx.length := by
          have e := dpt_plug (u := .leaf i) w4
          rw [show plug ctx (.leaf i) = v.2.2 from w3] at e
          rw [e]
          simp [dpt]
        have hcl : ctx.length ≤ 24 := by
          have := nd_len 24 _ u1.1 u1.2.1
          have h9 : ctx.length ≤ (cn ctx).length := by
            clear w2 w3 w4 w5 w6 u1 ha this hd
            induction ctx with
            | nil => simp
            | cons f r ih => simp [cn]; omega
          simp at this
          omega
        refine w_aload_n F dX8_job_104 rfl rfl ?_
        refine w_aload_n F dX8_job_105 rfl rfl ?_
        refine w_iload_n F dX8_job_106 rfl ?_
        refine w_callV F (As := [_]) (ct_leafOf hE hm γ (j := (i : Int)) (by constructor <;> omega)) (lw_V q1011 q1013 qs53 q88 q1014) md_X8_leafOf (by omega) cell_mdO rfl rfl rfl rfl (Nat.le_of_ble_eq_true rfl) dX8_job_107 ⟨by omega, by omega⟩ ⟨by omega, by omega⟩ ?_
        rintro _ _ ⟨rfl, rfl⟩
        rw [hlf]
        refine w_callV F (As := [_]) (ct_deepOf hE hm γ w1.lt ha (by simpa using hcl)) (lw_V q1007 q1009 qs52 q88 q1010) md_X8_deepOf (by omega) cell_mdO rfl rfl rfl rfl (Nat.le_of_ble_eq_true rfl) dX8_job_110 ⟨by omega, by omega⟩ ⟨by omega, by omega⟩ ?_
        rintro _ _ ⟨rfl, rfl⟩
        exact w_iret F (by omega) (by omega) (hans _ _ Off0.rf (by rw [List.length_map, ← hd]; rfl)) dX8_job_113
    · rw [b2i_0] at h2
      refine w_iconst F dX8_job_18 ?_
      exact w_iret F (by omega) (by omega) (⟨Off0.rf, Or.inl ⟨fun q => h2 q.2, rfl⟩⟩) dX8_job_19
theorem ct_holdNone (hE : EOk E) (hm : 438 ≤ E.nk) (γ : GG) {r : Nat} {t : TT} {ns : List Nat} (hr0 : γ 0 5 0 = (r : Int)) (hr : RepM (γ 0) t r ns) (hnd : ns.Nodup) (htn : (tl t).Nodup) (hJ : ∀ j ∈ tl t, JR (γ 0) j) : Ct l yX8_holdNone cX8_holdNone 4 (some .int) E 600 36000 [.ref (E.ad 414)] γ (fun v g => v = some (.int (iI (nNone (hl (rkT (γ 0)) t (fun _ => true)) : Int))) ∧ Off0 [12, 13, 16, 17, 18] γ g) 0 0 := by
  refine Ct.of hE (by decide) (Nat.le_of_ble_eq_true rfl) (fun Φ hLn hΦ F hfr hlo => ?_)
  subst hLn; subst hΦ
  have h414 := F.ok.1.2.2
  have hrc := F.rc
  have hrs := F.rs
  show Wg Φ 4 _ 0 0 0 [(0, _)] []
  refine w_rng (fun hR => ?_)
  have hnl : ns.length ≤ 23 := by
    have h1 := hr.len
    have h2 := nn_tl t
    have h3 := nd_len 12 _ htn (fun z hz => (hJ z hz).1)
    omega
  refine w_aload_n F dX8_holdNone_0 rfl rfl ?_
  refine w_callV F (As := []) (ct_setHolds hE hm γ hr0 hr hnd htn hJ) (lw_V q995 q997 qs49 q88 q998) md_X8_setHolds (by omega) cell_mdO rfl rfl rfl rfl (Nat.le_of_ble_eq_true rfl) dX8_holdNone_1 ⟨by omega, by omega⟩ ⟨by omega, by omega⟩ ?_
  rintro _ g ⟨rfl, h17, h16, o1⟩
  refine w_istore_n F dX8_holdNone_4 (by decide) rfl (lv' := [(0, _), (1, _)]) rfl ?_
  refine w_iconst F dX8_holdNone_5 ?_
  refine w_istore_n F dX8_holdNone_6 (by decide) rfl (lv' := [(0, _), (1, _), (2, _)]) rfl ?_
  refine w_iconst F dX8_holdNone_7 ?_
  refine w_istore_n F dX8_holdNone_8 (by decide) rfl (lv' := [(0, _), (1, _), (2, _), (3, _)]) rfl ?_
  have loop : ∀ (m : Nat) (A B : List Nat) (c : Nat), ns = A ++ B → B.length < m → c = nNone (A.map (g 0 16)) → c ≤ A.length → Wg Φ 4 g 0 0 9 [(0, .ref (Φ.E.ad 414)), (1, .int (iI (ns.length : Int))), (2, .int (iI (c : Int))), (3, .int (iI (A.length : Int)))] [] := by
    intro m
    induction m with
    | zero => intro A B c h1 h2; omega
    | succ m ih =>
      intro A B c h1 h2 h3 h4
      have hlen : A.length + B.length = ns.length := by rw [h1]; simp
      cases B with
      | nil =>
        simp at hlen
        refine w_iload_n F dX8_holdNone_9 rfl ?_
        refine w_iload_n F dX8_holdNone_10 rfl ?_
        refine w_icmp_ge F (tgt := 44) dX8_holdNone_11 (by decide) (by first | assumption | exact inR0 | exact (hR _ _ _).1 | (constructor <;> omega)) (by first | assumption | exact inR0 | exact (hR _ _ _).1 | (constructor <;> omega)) (fun h9 => ?_) (fun h9 => ?_)
        · refine w_iload_n F dX8_holdNone_44 rfl ?_
          exact w_iret F (by omega) (by omega) (⟨by rw [h3, ← h16, h1]; simp, o1⟩) dX8_holdNone_45
        · omega
      | cons z B =>
        simp at hlen
        have hz1 : z < 24 := hr.all z (by rw [h1]; simp)
        have hz2 : g 0 17 A.length = (z : Int) := h17 A.length z (by rw [h1]; simp)
        refine w_rng (fun hR => ?_)
        refine w_iload_n F dX8_holdNone_9 rfl ?_
        refine w_iload_n F dX8_holdNone_10 rfl ?_
        refine w_icmp_ge F (tgt := 44) dX8_holdNone_11 (by decide) (by first | assumption | exact inR0 | exact (hR _ _ _).1 | (constructor <;> omega)) (by first | assumption | exact inR0 | exact (hR _ _ _).1 | (constructor <;> omega)) (fun h9 => ?_) (fun h9 => ?_)
        · omega
        · refine w_iload_n F dX8_holdNone_14 rfl ?_
          refine w_aload_n F dX8_holdNone_15 rfl rfl ?_
          refine w_get F (by omega) cell_mdO rfl in_X8 16 (by decide) (Or.inl q888) rfl dX8_holdNone_16 ?_
          refine w_aload_n F dX8_holdNone_19 rfl rfl ?_
          refine w_get F (by omega) cell_mdO rfl in_X8 17 (by decide) (Or.inl q889) rfl dX8_holdNone_20 ?_
          refine w_iload_n F dX8_holdNone_23 rfl ?_
          first | refine w_ialdN F (aM17 _) (by omega) (by decide) (by omega) dX8_holdNone_24 ?_ | refine w_iald F (aM17 _) (by omega) (by decide) (by omega) (by omega) dX8_holdNone_24 ?_
          refine w_top hz2 ?_
          have ih0 := ih (A ++ [z]) B
          first | refine w_ialdN F (aM16 _) (by omega) (by decide) (by omega) dX8_holdNone_25 ?_ | refine w_iald F (aM16 _) (by omega) (by decide) (by omega) (by omega) dX8_holdNone_25 ?_
          refine w_bipush F dX8_holdNone_26 rfl ?_
          refine w_icmp_ne F (tgt := 35) dX8_holdNone_28 (by decide) (by first | assumption | exact inR0 | exact (hR _ _ _).1 | (constructor <;> omega)) (by first | assumption | exact inR0 | exact (hR _ _ _).1 | (constructor <;> omega)) (fun h8 => ?_) (fun h8 => ?_)
          · refine w_iconst F dX8_holdNone_35 ?_
            refine w_iadd F dX8_holdNone_36 ?_
            refine w_istore_n F dX8_holdNone_37 (by decide) rfl (lv' := [(0, _), (1, _), (2, _), (3, _)]) rfl ?_
            refine w_iinc F dX8_holdNone_38 rfl (by decide) rfl (lv' := [(0, _), (1, _), (2, _), (3, _)]) rfl ?_
            refine w_goto F (tgt := 9) dX8_holdNone_41 (by decide) ?_
            have := ih0 c (by rw [h1]; simp) (by simp at h2; omega) (by rw [h3]; simp [nNone, h8]) (by simp; omega)
            rw [show ((A ++ [z]).length : Int) = (A.length : Int) + 1 by simp] at this
            rw [show (c : Int) + 0 = (c : Int) by omega]
            exact this
          · refine w_iconst F dX8_holdNone_31 ?_
            refine w_goto F (tgt := 36) dX8_holdNone_32 (by decide) ?_
            refine w_iadd F dX8_holdNone_36 ?_
            refine w_istore_n F dX8_holdNone_37 (by decide) rfl (lv' := [(0, _), (1, _), (2, _), (3, _)]) rfl ?_
            refine w_iinc F dX8_holdNone_38 rfl (by decide) rfl (lv' := [(0, _), (1, _), (2, _), (3, _)]) rfl ?_
            refine w_goto F (tgt := 9) dX8_holdNone_41 (by decide) ?_
            have := ih0 (c + 1) (by rw [h1]; simp) (by simp at h2; omega) (by rw [h3]; simp [nNone, h8]) (by simp; omega)
            rw [show ((A ++ [z]).length : Int) = (A.length : Int) + 1 by simp] at this
            exact this
  exact loop (ns.length + 1) [] ns 0 (by simp) (by omega) rfl (by simp)
end M18
