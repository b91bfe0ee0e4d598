/-! the model: lay -/
def T00 : Nat → Nat → Int := fun _ _ => 0
def vOne (q : Q4) : VV := (1, upT T00 0 q.1 q.2.1 q.2.2.1 q.2.2.2, .leaf 0)
def vAdd (v : VV) (q : Q4) : VV := addV v q.1 q.2.1 q.2.2.1 q.2.2.2
def lyO (ov : Option VV) (q : Q4) : Option VV := some (match ov with | none => vOne q | some v => vAdd v q)
def bO : Option VV → Nat | none => 0 | some v => v.1
def TO : Option VV → Nat → Nat → Int | none => T00 | some v => v.2.1
def SO (σ : Nat → Nat → Int) : Option VV → Prop | none => ME σ | some v => MV σ v.1 v.2.1 v.2.2
def VO : Option VV → Prop | none => True | some v => VOk v
/-- the value that is laid -/
def vLay (L : List Q4) : VV := ((L.foldl lyO none).getD (vOne (0, 0, 0, 1)))
theorem low_bits : ∀ k, k < 12 → fj (2 ^ k - 1) = k ∧ (2 ^ k - 1) ||| 2 ^ k = 2 ^ (k + 1) - 1 ∧ cnt (2 ^ k - 1) 12 = k := by decide
theorem low_cnt (k : Nat) (h : k ≤ 12) : cnt (2 ^ k - 1) 12 = k := by
  by_cases e : k < 12
  · exact (low_bits k e).2.2
  · rw [show k = 12 by omega]; decide
theorem VOk.one {q : Q4} (h : tld q) : VOk (vOne q) := by
  refine ⟨⟨by show (1 : Nat) < 4096; decide, fun j hj => ?_⟩, ⟨fun j => ?_, by simp [vOne, tl]⟩, ?_⟩
  · have h1 : (1 : Nat).testBit j = true := hj
    have e : j = 0 := by
      rw [show (1 : Nat) = 2 ^ 0 from rfl, Nat.testBit_two_pow] at h1
      simp at h1; omega
    subst e
    show (0 ≤ upT T00 0 q.1 q.2.1 q.2.2.1 q.2.2.2 1 0 ∧ _) ∧ _
    simp [upT, vOne]
    exact h
  · show j ∈ [0] ↔ (1 : Nat).testBit j = true
    rw [show (1 : Nat) = 2 ^ 0 from rfl, Nat.testBit_two_pow]
    simp
    exact ⟨fun e => e.symm, fun e => e.symm⟩
  · exact trivial
theorem lyO_ok {ov : Option VV} {k : Nat} {q : Q4} (hb : bO ov = 2 ^ k - 1) (hk : k < 12) (hV : VO ov) (hq : tld q) : VO (lyO ov q) ∧ bO (lyO ov q) = 2 ^ (k + 1) - 1 := by
  obtain ⟨l1, l2, l3⟩ := low_bits k hk
  cases ov with
  | none =>
    have hb' : 0 = 2 ^ k - 1 := hb
    have e : k = 0 := by
      rcases Nat.eq_zero_or_pos k with e | e
      · exact e
      · have := Nat.pow_le_pow_right (n := 2) (by decide) e; omega
    subst e
    exact ⟨VOk.one hq, rfl⟩
  | some v =>
    have hb' : v.1 = 2 ^ k - 1 := hb
    refine ⟨VOk.add hV hq (by rw [hb', l3]; omega), ?_⟩
    show v.1 ||| 2 ^ fj v.1 = _
    rw [hb', l1, l2]
theorem fold_ok : ∀ (L : List Q4) (ov : Option VV) (k : Nat), bO ov = 2 ^ k - 1 → k + L.length ≤ 12 → VO ov → (∀ q ∈ L, tld q) → VO (L.foldl lyO ov) ∧ bO (L.foldl lyO ov) = 2 ^ (k + L.length) - 1
  | [], ov, k, h1, _, h3, _ => ⟨h3, h1⟩
  | q :: r, ov, k, h1, h2, h3, h4 => by
    simp only [List.length_cons] at h2
    have h5 := lyO_ok h1 (by omega) h3 (h4 q List.mem_cons_self)
    have := fold_ok r (lyO ov q) (k + 1) h5.2 (by omega) h5.1 (fun z hz => h4 z (List.mem_cons_of_mem _ hz))
    rw [show k + (q :: r).length = k + 1 + r.length by simp; omega]
    exact this
theorem fold_some (q : Q4) (r : List Q4) (ov : Option VV) : ∃ v, (q :: r).foldl lyO ov = some v := by
  revert q ov
  induction r with
  | nil => exact fun q ov => ⟨_, rfl⟩
  | cons a r ih => exact fun q ov => ih a (lyO ov q)
theorem vLay_ok {L : List Q4} (h0 : L ≠ []) (hl : L.length ≤ 12) (h : ∀ q ∈ L, tld q) : VOk (vLay L) ∧ (vLay L).1 = 2 ^ L.length - 1 ∧ L.foldl lyO none = some (vLay L) := by
  cases L with
  | nil => exact absurd rfl h0
  | cons q r =>
    obtain ⟨v, hv⟩ := fold_some q r none
    have h1 := fold_ok (q :: r) none 0 rfl (by omega) trivial h
    have e : vLay (q :: r) = v := by unfold vLay; rw [hv]; rfl
    rw [hv] at h1
    rw [e]
    refine ⟨h1.1, ?_, hv⟩
    have := h1.2
    rw [Nat.zero_add] at this
    exact this
abbrev okLay (cs : List Int) : Prop := (flt cs 13 0 0).1 = -4 ∧ (flt cs 13 0 0).2 ≠ []
abbrev offL : List Nat := [0, 1, 2, 3, 4, 5, 6, 7, 8, 9, 10, 11, 12, 13, 14, 15, 20, 22, 29, 30, 31, 32]
section M31
variable {l : Launch} {E : EE}
theorem ct_layM (hE : EOk E) (hm : 438 ≤ E.nk) (γ : GG) {Lb : Int} {v : VV} {vu vk : List VV} (hF : MF (γ 0) Lb v vu vk) (hLb : Lb < 1000000000) {cs : List Int} (hT : TXT (γ 0) cs) : Ct l yX8_lay cX8_lay 2 (some .int) E 700 40000 [.ref (E.ad 414)] γ (fun r g => Off0 offL γ g ∧ ((¬ okLay cs ∧ r = some (.int (iI (-2))) ∧ MF (g 0) (Lb + 12) v vu vk) ∨ (okLay cs ∧ r = some (.int (iI ((flt cs 13 0 0).2.length : Int))) ∧ MF (g 0) (Lb + 12) (vLay (flt cs 13 0 0).2) [] []))) 0 0 := by
  refine Ct.of hE (by decide) (Nat.le_of_ble_eq_true rfl) (fun Φ hLn hΦ F hfr hlo => ?_)
  subst hLn; subst hΦ
  have h414 := F.ok.1.2.2
  have hrc := F.rc
  have hrs := F.rs
  show Wg Φ 2 _ 0 0 0 [(0, _)] []
  refine w_rng (fun hR => ?_)
  have hlen := hT.2.1
  have hFR := flt_R cs hlen 13 0 0
  have hFT := flt_told cs 13 0 0
  have hFL := flt_len cs 13 0 0 (by omega)
  obtain ⟨tg, htg⟩ : ∃ t, t = flt cs 13 0 0 := ⟨_, rfl⟩
  refine w_aload_n F dX8_lay_0 rfl rfl ?_
  refine w_callV F (As := []) (ct_faultM hE hm γ hT) (lw_V q1172 q1149 q1150 q88 q1151) md_X8_fault (by omega) cell_mdO rfl rfl rfl rfl (Nat.le_of_ble_eq_true rfl) dX8_lay_1 ⟨by omega, by omega⟩ ⟨by omega, by omega⟩ ?_
  rintro _ g1 ⟨o1, rfl, hj⟩
  rw [← htg] at hFR hFT hFL hj ⊢
  have hno : ¬ okLay cs → Wg Φ 2 g1 0 0 16 [(0, .ref (Φ.E.ad 414))] [] := by
    intro hn
    have hn' : ¬ okLay cs := hn
    refine w_bipush F dX8_lay_16 rfl ?_
    exact w_iret F (by omega) (by omega) (⟨o1.mono (by decide), Or.inl ⟨hn', rfl, MF.off (σ := g1 0) hF o1 rfl (by omega) (w := v) (hF.1.cong hF.2.2.1 (fun f i hp => by rw [o1 0 f (by unfold PK2 at hp; simp; omega)])) hF.2.2.1 (by rw [o1.f 11 rfl]; have := hF.2.1; omega)⟩⟩) dX8_lay_18
  refine w_bipush F dX8_lay_4 rfl ?_
  refine w_icmp_ne F (tgt := 16) dX8_lay_6 (by decide) (by first | assumption | exact inR0 | exact (hR _ _ _).1 | (constructor <;> omega)) (by first | assumption | exact inR0 | exact (hR _ _ _).1 | (constructor <;> omega)) (fun h1 => ?_) (fun h1 => ?_)
  · refine hno (fun q => h1 ?_)
    rw [htg]; exact q.1
  · obtain ⟨j1, j2⟩ := hj h1
    refine w_aload_n F dX8_lay_9 rfl rfl ?_
    refine w_getF F (fM30 _) (by omega) rfl in_X8 (by decide) (Or.inl q902) dX8_lay_10 ?_
    refine w_top j1 ?_
    refine w_if_ne F (tgt := 19) dX8_lay_13 (by decide) (by first | assumption | exact inR0 | exact (hR _ _ _).1 | (constructor <;> omega)) (fun h2 => ?_) (fun h2 => ?_)
    · have hL0 : tg.2 ≠ [] := fun e => by rw [e] at h2; simp at h2
      have hok : okLay cs := ⟨by rw [← htg]; exact h1, by rw [← htg]; exact hL0⟩
      refine w_aload_n F dX8_lay_19 rfl rfl ?_
      refine w_callV F (As := []) (ct_empties hE hm g1) (lw_V q822 q824 qs34 q88 q825) md_X8_empties (by omega) cell_mdO rfl rfl rfl rfl (Nat.le_of_ble_eq_true rfl) dX8_lay_20 ⟨by omega, by omega⟩ ⟨by omega, by omega⟩ ?_
      rintro _ g2 ⟨rfl, e1, o2⟩
      refine w_iconst F dX8_lay_23 ?_
      refine w_istore_n F dX8_lay_24 (by decide) rfl (lv' := [(0, _), (1, _)]) rfl ?_
      have f2 := hF.2.1
      have loop : ∀ (r : List Q4) (k : Nat) (g : GG) (ov : Option VV), k + r.length = tg.2.length → tg.2.drop k = r → r.foldl lyO ov = tg.2.foldl lyO none → bO ov = 2 ^ k - 1 → VO ov → SO (g 0) ov → Off0 offL γ g → g 0 30 = g1 0 30 → g 0 32 = g1 0 32 → (0 ≤ g 0 11 0 ∧ g 0 11 0 ≤ Lb + k) → Wg Φ 2 g 0 0 25 [(0, .ref (Φ.E.ad 414)), (1, .int (iI (k : Int)))] [] := by
        intro r
        induction r with
        | nil =>
          intro k g ov a1 a2 a3 a4 a5 a6 a7 a8 a9 a10
          refine w_iload_n F dX8_lay_25 rfl ?_
          refine w_aload_n F dX8_lay_26 rfl rfl ?_
          refine w_getF F (fM30 _) (by omega) rfl in_X8 (by decide) (Or.inl q902) dX8_lay_27 ?_
          refine w_top (z' := (tg.2.length : Int)) (by rw [a8]; exact j1) ?_
          refine w_icmp_ge F (tgt := 82) dX8_lay_30 (by decide) (by first | assumption | exact inR0 | exact (hR _ _ _).1 | (constructor <;> omega)) (by first | assumption | exact inR0 | exact (hR _ _ _).1 | (constructor <;> omega)) (fun h3 => ?_) (fun h3 => ?_)
          · obtain ⟨w1, w2, w3⟩ := vLay_ok hL0 (by omega) hFT
            have a3' : ov = some (vLay tg.2) := by rw [← w3]; exact a3
            subst a3'
            have hM : MV (g 0) (vLay tg.2).1 (vLay tg.2).2.1 (vLay tg.2).2.2 := a6
            have hb4 := w1.1.1
            have o3 : Off0 [20, 22] g (gu (gu g 0 20 0 0) 0 22 0 0) := (Off0.rf.up (by decide)).up (by decide)
            have hM2 : MV (gu (gu g 0 20 0 0) 0 22 0 0 0) (vLay tg.2).1 (vLay tg.2).2.1 (vLay tg.2).2.2 := hM.cong hb4 (fun f i hp => by rw [o3 0 f (by unfold PK2 at hp; simp; omega)])
            refine w_aload_n F dX8_lay_82 rfl rfl ?_
            refine w_iconst F dX8_lay_83 ?_
            refine w_putF F (fM20 _) (by omega) rfl in_X8 tyX8 tyX8_ok nmX8 (by decide) (Or.inl q892) rfl rfl rfl (by first | assumption | exact inR0 | exact (hR _ _ _).1 | (constructor <;> omega)) (fun h => by cases h) (fun h => by cases h) dX8_lay_84 ?_
            refine w_aload_n F dX8_lay_87 rfl rfl ?_
            refine w_iconst F dX8_lay_88 ?_
            refine w_putF F (fM22 _) (by omega) rfl in_X8 tyX8 tyX8_ok nmX8 (by decide) (Or.inl q894) rfl rfl rfl (by first | assumption | exact inR0 | exact (hR _ _ _).1 | (constructor <;> omega)) (fun h => by cases h) (fun h => by cases h) dX8_lay_89 ?_
            refine w_aload_n F dX8_lay_92 rfl rfl ?_
            refine w_callV F (As := []) (ct_many hE hm _ hM2.1 hb4) (lw_V q1030 q1032 qs55 q88 q1033) md_X8_many (by omega) cell_mdO rfl rfl rfl rfl (Nat.le_of_ble_eq_true rfl) dX8_lay_93 ⟨by omega, by omega⟩ ⟨by omega, by omega⟩ ?_
            rintro _ _ ⟨rfl, rfl⟩
            have hr : ((cnt (vLay tg.2).1 12 : Nat) : Int) = ((flt cs 13 0 0).2.length : Int) := by rw [w2, low_cnt _ (by omega), htg]
            have hb5 : cnt (vLay tg.2).1 12 ≤ 12 := cnt_le _ _
            have hMF : MF (gu (gu g 0 20 0 0) 0 22 0 0 0) (Lb + 12) (vLay (flt cs 13 0 0).2) [] [] := by
              rw [← htg]
              refine ⟨hM2, by rw [o3.f 11 rfl]; simp at a1; omega, hb4, ?_, by simp, by intro i w hw; simp at hw, gu_s _ _ _ _ _, by simp, by intro i w hw; simp at hw⟩
              rw [gu_f (by decide)]
              exact gu_s _ _ _ _ _
            exact w_iret F (by omega) (by omega) (⟨(a7.up (by decide)).up (by decide), Or.inr ⟨hok, by rw [hr], hMF⟩⟩) dX8_lay_96
          · simp at a1; omega
        | cons q r ih =>
          intro k g ov a1 a2 a3 a4 a5 a6 a7 a8 a9 a10
          simp only [List.length_cons] at a1
          have hq : tg.2[k]? = some q := by
            have : (tg.2.drop k)[0]? = some q := by rw [a2]; rfl
            rw [List.getElem?_drop] at this
            exact this
          obtain ⟨q0, q1, q2, q3⟩ := j2 k q hq
          have hqt := hFT q (List.mem_of_getElem? hq)
          obtain ⟨t0, t1, t2, t3⟩ := id hqt
          obtain ⟨l1, l2, l3⟩ := low_bits k (by omega)
          have fs := fj_spec (b := 2 ^ k - 1) (by rw [l3]; omega)
          rw [l1] at fs
          refine w_iload_n F dX8_lay_25 rfl ?_
          refine w_aload_n F dX8_lay_26 rfl rfl ?_
          refine w_getF F (fM30 _) (by omega) rfl in_X8 (by decide) (Or.inl q902) dX8_lay_27 ?_
          refine w_top (z' := (tg.2.length : Int)) (by rw [a8]; exact j1) ?_
          refine w_icmp_ge F (tgt := 82) dX8_lay_30 (by decide) (by first | assumption | exact inR0 | exact (hR _ _ _).1 | (constructor <;> omega)) (by first | assumption | exact inR0 | exact (hR _ _ _).1 | (constructor <;> omega)) (fun h3 => ?_) (fun h3 => ?_)
          · omega
          · refine w_aload_n F dX8_lay_33 rfl rfl ?_
            refine w_aload_n F dX8_lay_34 rfl rfl ?_
            refine w_get F (by omega) cell_mdO rfl in_X8 32 (by decide) (Or.inl q904) rfl dX8_lay_35 ?_
            refine w_iconst F dX8_lay_38 ?_
            refine w_iload_n F dX8_lay_39 rfl ?_
            refine w_imul F dX8_lay_40 ?_
            refine w_top (z' := ((4 * k + 0 : Nat) : Int)) (by omega) ?_
            first | refine w_ialdN F (aM32 _) (by omega) (by decide) (by omega) dX8_lay_41 ?_ | refine w_iald F (aM32 _) (by omega) (by decide) (by omega) (by omega) dX8_lay_41 ?_
            refine w_top (z' := q.1) (by rw [a9]; exact q0) ?_
            refine w_aload_n F dX8_lay_42 rfl rfl ?_
            refine w_get F (by omega) cell_mdO rfl in_X8 32 (by decide) (Or.inl q904) rfl dX8_lay_43 ?_
            refine w_iconst F dX8_lay_46 ?_
            refine w_iload_n F dX8_lay_47 rfl ?_
            refine w_imul F dX8_lay_48 ?_
            refine w_iconst F dX8_lay_49 ?_
            refine w_iadd F dX8_lay_50 ?_
            refine w_top (z' := ((4 * k + 1 : Nat) : Int)) (by omega) ?_
            first | refine w_ialdN F (aM32 _) (by omega) (by decide) (by omega) dX8_lay_51 ?_ | refine w_iald F (aM32 _) (by omega) (by decide) (by omega) (by omega) dX8_lay_51 ?_
            refine w_top (z' := q.2.1) (by rw [a9]; exact q1) ?_
            refine w_aload_n F dX8_lay_52 rfl rfl ?_
            refine w_get F (by omega) cell_mdO rfl in_X8 32 (by decide) (Or.inl q904) rfl dX8_lay_53 ?_
            refine w_iconst F dX8_lay_56 ?_
            refine w_iload_n F dX8_lay_57 rfl ?_
            refine w_imul F dX8_lay_58 ?_
            refine w_iconst F dX8_lay_59 ?_
            refine w_iadd F dX8_lay_60 ?_
            refine w_top (z' := ((4 * k + 2 : Nat) : Int)) (by omega) ?_
            first | refine w_ialdN F (aM32 _) (by omega) (by decide) (by omega) dX8_lay_61 ?_ | refine w_iald F (aM32 _) (by omega) (by decide) (by omega) (by omega) dX8_lay_61 ?_
            refine w_top (z' := q.2.2.1) (by rw [a9]; exact q2) ?_
            refine w_aload_n F dX8_lay_62 rfl rfl ?_
            refine w_get F (by omega) cell_mdO rfl in_X8 32 (by decide) (Or.inl q904) rfl dX8_lay_63 ?_
            refine w_iconst F dX8_lay_66 ?_
            refine w_iload_n F dX8_lay_67 rfl ?_
            refine w_imul F dX8_lay_68 ?_
            refine w_iconst F dX8_lay_69 ?_
            refine w_iadd F dX8_lay_70 ?_
            refine w_top (z' := ((4 * k + 3 : Nat) : Int)) (by omega) ?_
            first | refine w_ialdN F (aM32 _) (by omega) (by decide) (by omega) dX8_lay_71 ?_ | refine w_iald F (aM32 _) (by omega) (by decide) (by omega) (by omega) dX8_lay_71 ?_
            refine w_top (z' := q.2.2.2) (by rw [a9]; exact q3) ?_
            have hJ : JOk (bO ov) (TO ov) := by
              cases ov with
              | none => exact ⟨by decide, fun j hj => by simp [bO] at hj⟩
              | some w => exact a5.1
            have hot : match (ov.map (fun w => w.2.2)) with | none => ME (g 0) ∧ bO ov = 0 | some t => MV (g 0) (bO ov) (TO ov) t ∧ TOk (bO ov) t := by
              cases ov with
              | none => exact ⟨a6, rfl⟩
              | some w => exact ⟨a6, a5.2.1⟩
            refine w_callV F (As := [_, _, _, _]) (ct_comes hE hm g hJ hot (j := k) (by omega) (by rw [a4]; exact fs.2.1) (by rw [a4]; exact fs.2.2) t0 t1 t2 t3 (by omega)) (lw_V q826 q828 qs35 q88 q829) md_X8_comes (by omega) cell_mdO rfl rfl rfl rfl (Nat.le_of_ble_eq_true rfl) dX8_lay_72 ⟨by omega, by omega⟩ ⟨by omega, by omega⟩ ?_
            rintro _ g3 ⟨rfl, hv3, h11, o3⟩
            refine w_pop F dX8_lay_75 rfl ?_
            refine w_iinc F dX8_lay_76 rfl (by decide) rfl (lv' := [(0, _), (1, _)]) rfl ?_
            refine w_goto F (tgt := 25) dX8_lay_79 (by decide) ?_
            have hly := lyO_ok a4 (by omega) a5 hqt
            have hn : (addO (keyT (upT (TO ov) k q.1 q.2.1 q.2.2.1 q.2.2.2)) k (ov.map (fun w => w.2.2))).2 ≤ 1 := by
              cases ov with
              | none => exact Nat.zero_le _
              | some w => exact lev_n _ _ _
            refine ih (k + 1) g3 (lyO ov q) (by omega) ?_ a3 hly.2 hly.1 ?_ (a7.tr (o3.mono (by decide))) (by rw [o3.f 30 rfl]; exact a8) (by rw [o3.f 32 rfl]; exact a9) (by omega)
            · rw [← List.drop_drop, a2]; rfl
            · cases ov with
              | none =>
                have hb' : 0 = 2 ^ k - 1 := a4
                have e : k = 0 := by
                  rcases Nat.eq_zero_or_pos k with e | e
                  · exact e
                  · have := Nat.pow_le_pow_right (n := 2) (by decide) e; omega
                subst e
                exact hv3
              | some w =>
                have hb' : w.1 = 2 ^ k - 1 := a4
                have hfj : fj w.1 = k := by rw [hb']; exact l1
                show MV (g3 0) (addV w q.1 q.2.1 q.2.2.1 q.2.2.2).1 (addV w q.1 q.2.1 q.2.2.1 q.2.2.2).2.1 (addV w q.1 q.2.1 q.2.2.1 q.2.2.2).2.2
                unfold addV
                rw [hfj]
                exact hv3
      refine loop tg.2 0 g2 none (by simp) rfl rfl rfl trivial e1 ((o1.mono (by decide)).tr (o2.mono (by decide))) (by rw [o2.f 30 rfl]) (by rw [o2.f 32 rfl]) (by rw [o2.f 11 rfl, o1.f 11 rfl]; omega)
    · refine hno (fun q => q.2 ?_)
      rw [← htg]
      exact List.length_eq_zero_iff.mp (by omega)
end M31
