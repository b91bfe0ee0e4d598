/-! DeadlineTree: cutFrom, goDrawn, day -/
section D15
variable {l : Launch} {E : EE}
theorem ct_cutFrom (hE : EOk E) (hA : AhOk l E) (hH : HoOk l E) (γ : GG) {k : Nat} (hk : k < 13) {v : VV} (hv : SV (γ (2 + k)) v) (hV : VOk v) (h2l : 2 ≤ (tl v.2.2).length) {j0 : Nat} (hj0 : j0 < 12) : Ct l yX0_cutFrom cX0_cutFrom 4 (some .int) E 1000 52000 [.ref (E.ad 0), .ref (E.ad (11 + 31 * k)), .int (iI (j0 : Int))] γ (fun r g => r = some (.int (iI ((cutT (keyT v.2.1) (keyT v.2.1 (pick v.1 12 j0)) v.2.2).2 : Int))) ∧ SV (g (2 + k)) (cutV v (pick v.1 12 j0)) ∧ OnlyS k γ g) 2 32 := by
  refine Ct.of hE (by decide) (Nat.le_of_ble_eq_true rfl) (fun Φ hLn hΦ F hfr hlo => ?_)
  subst hLn; subst hΦ
  have h414 := F.ok.1.2.2
  have hrc := F.rc
  have hrs := F.rs
  show Wg Φ 4 _ 0 0 0 [(0, _), (1, _), (2, _)] []
  refine w_rng (fun hR => ?_)
  have hb2 := hV.1.1
  obtain ⟨pk, hpk⟩ : ∃ p, p = pick v.1 12 j0 := ⟨_, rfl⟩
  have loop : ∀ m j : Nat, j < 12 → pick v.1 m j = pk → (∃ i, i < m ∧ v.1.testBit ((j + i) % 12) = true) → Wg Φ 4 γ 0 0 2 [(0, .ref (Φ.E.ad 0)), (1, .ref (Φ.E.ad (11 + 31 * k))), (2, .int (iI (j0 : Int))), (3, .int (iI (j : Int)))] [] := by
    intro m
    induction m with
    | zero => rintro j _ _ ⟨i, hi, _⟩; omega
    | succ m ih =>
      rintro j hj hp ⟨i, hi, hbi⟩
      have hp : (if v.1.testBit j = true then j else pick v.1 m ((j + 1) % 12)) = pk := hp
      refine w_aload_n F dX0_cutFrom_2 rfl rfl ?_
      refine w_getF F (fS0 _ (by omega)) (by omega) rfl in_X1 (by decide) (Or.inr q149) dX0_cutFrom_3 ?_
      refine w_top (z' := (v.1 : Int)) hv.1 ?_
      refine w_iload_n F dX0_cutFrom_6 rfl ?_
      refine w_callS F (As := [_, _]) (ct_hasD hE γ (a := v.1) (j := j) (by omega) (by omega)) (lw_S q605 q606 q70 q607) md_X0_has rfl rfl (Nat.le_of_ble_eq_true rfl) dX0_cutFrom_7 ⟨by omega, by omega⟩ ⟨by omega, by omega⟩ ?_
      rintro _ _ ⟨rfl, rfl⟩
      refine w_if_ne F (tgt := 23) dX0_cutFrom_10 (by decide) (b2i_R _) (fun h2 => ?_) (fun h2 => ?_)
      · rw [b2i_n0] at h2
        rw [if_pos h2] at hp
        subst hp
        refine w_aload_n F dX0_cutFrom_23 rfl rfl ?_
        refine w_iload_n F dX0_cutFrom_24 rfl ?_
        refine w_callV F (As := [_]) (ct_cutS hE hA hH γ hk hv hV h2 h2l) (lw_V q662 q663 q664 q71 q665) md_X1_cut (by omega) (cell_stO (by omega)) rfl rfl rfl rfl (Nat.le_of_ble_eq_true rfl) dX0_cutFrom_25 ⟨by omega, by omega⟩ ⟨by omega, by omega⟩ ?_
        rintro _ g ⟨rfl, s1, o1⟩
        exact w_iret F (by omega) (by omega) (⟨by rw [← hpk], by rw [← hpk]; exact s1, o1⟩) dX0_cutFrom_28
      · rw [b2i_0] at h2
        rw [if_neg h2] at hp
        refine w_iload_n F dX0_cutFrom_13 rfl ?_
        refine w_iconst F dX0_cutFrom_14 ?_
        refine w_iadd F dX0_cutFrom_15 ?_
        refine w_bipush F dX0_cutFrom_16 rfl ?_
        refine w_irem F dX0_cutFrom_18 (by omega) (by first | assumption | exact inR0 | exact (hR _ _ _).1 | (constructor <;> omega)) (by decide) (by decide) ?_
        refine w_top (z' := (((j + 1) % 12 : Nat) : Int)) (by omega) ?_
        refine w_istore_n F dX0_cutFrom_19 (by decide) rfl (lv' := [(0, _), (1, _), (2, _), (3, _)]) rfl ?_
        refine w_goto F (tgt := 2) dX0_cutFrom_20 (by decide) ?_
        refine ih ((j + 1) % 12) (by omega) hp ?_
        cases i with
        | zero => rw [Nat.add_zero, Nat.mod_eq_of_lt hj] at hbi; exact absurd hbi h2
        | succ i => exact ⟨i, by omega, by rw [show ((j + 1) % 12 + i) % 12 = (j + (i + 1)) % 12 by omega]; exact hbi⟩
  refine w_iload_n F dX0_cutFrom_0 rfl ?_
  refine w_istore_n F dX0_cutFrom_1 (by decide) rfl (lv' := [(0, _), (1, _), (2, _), (3, _)]) rfl ?_
  obtain ⟨z, hz⟩ := List.exists_mem_of_length_pos (tl_pos v.2.2)
  have hz0 := (hV.2.1.1 z).mp hz
  have hj12 := tb12 hb2 hz0
  exact loop 12 j0 hj0 hpk.symm ⟨(z + 12 - j0) % 12, by omega, by rw [show (j0 + (z + 12 - j0) % 12) % 12 = z by omega]; exact hz0⟩
theorem ct_goDrawn (hE : EOk E) (hA : AhOk l E) (hH : HoOk l E) (γ : GG) {k : Nat} (hk : k < 13) {v : VV} (hv : SV (γ (2 + k)) v) (hV : VOk v) {n : Nat} (hn : n < 2000000000) : Ct l yX0_goDrawn cX0_goDrawn 4 (some .int) E 1100 56000 [.ref (E.ad 0), .ref (E.ad (11 + 31 * k)), .int (iI (n : Int))] γ (fun r g => r = some (.int (iI ((dtn v n).2 : Int))) ∧ SV (g (2 + k)) (dtn v n).1 ∧ OnlyS k γ g) 2 32 := by
  refine Ct.of hE (by decide) (Nat.le_of_ble_eq_true rfl) (fun Φ hLn hΦ F hfr hlo => ?_)
  subst hLn; subst hΦ
  have h414 := F.ok.1.2.2
  have hrc := F.rc
  have hrs := F.rs
  show Wg Φ 4 _ 0 0 0 [(0, _), (1, _), (2, _)] []
  refine w_rng (fun hR => ?_)
  have hb2 := hV.1.1
  have hcl := cnt_le v.1 12
  have rest : ¬ (n % 4 < 2 ∧ cnt v.1 12 < 12) → Wg Φ 4 γ 0 0 43 [(0, .ref (Φ.E.ad 0)), (1, .ref (Φ.E.ad (11 + 31 * k))), (2, .int (iI (n : Int))), (3, .int (iI (cnt v.1 12 : Int)))] [] := by
    intro hno
    refine w_iload_n F dX0_goDrawn_43 rfl ?_
    refine w_iconst F dX0_goDrawn_44 ?_
    refine w_icmp_ge F (tgt := 52) dX0_goDrawn_45 (by decide) (by first | assumption | exact inR0 | exact (hR _ _ _).1 | (constructor <;> omega)) (by first | assumption | exact inR0 | exact (hR _ _ _).1 | (constructor <;> omega)) (fun h1 => ?_) (fun h1 => ?_)
    · have e : dtn v n = (cutV v (pick v.1 12 (n / 4 % 12)), (cutT (keyT v.2.1) (keyT v.2.1 (pick v.1 12 (n / 4 % 12))) v.2.2).2) := by unfold dtn; rw [if_neg hno, if_pos (by omega)]
      refine w_aload_n F dX0_goDrawn_52 rfl rfl ?_
      refine w_aload_n F dX0_goDrawn_53 rfl rfl ?_
      refine w_iload_n F dX0_goDrawn_54 rfl ?_
      refine w_iconst F dX0_goDrawn_55 ?_
      refine w_idiv F dX0_goDrawn_56 (by omega) (by first | assumption | exact inR0 | exact (hR _ _ _).1 | (constructor <;> omega)) (by decide) (by decide) ?_
      refine w_bipush F dX0_goDrawn_57 rfl ?_
      refine w_irem F dX0_goDrawn_59 (by omega) (by first | assumption | exact inR0 | exact (hR _ _ _).1 | (constructor <;> omega)) (by decide) (by decide) ?_
      refine w_top (z' := ((n / 4 % 12 : Nat) : Int)) (by omega) ?_
      refine w_callV F (As := [_, _]) (ct_cutFrom hE hA hH γ hk hv hV (hV.two (by omega)) (j0 := n / 4 % 12) (by omega)) (lw_V q795 q797 qs32 q70 q798) md_X0_cutFrom (by omega) rfl rfl rfl rfl rfl (Nat.le_of_ble_eq_true rfl) dX0_goDrawn_60 ⟨by omega, by omega⟩ ⟨by omega, by omega⟩ ?_
      rintro _ g ⟨rfl, s1, o1⟩
      exact w_iret F (by omega) (by omega) (⟨by rw [e], by rw [e]; exact s1, o1⟩) dX0_goDrawn_63
    · have e : dtn v n = (v, 0) := by unfold dtn; rw [if_neg hno, if_neg (by omega)]
      refine w_iconst F dX0_goDrawn_48 ?_
      refine w_goto F (tgt := 63) dX0_goDrawn_49 (by decide) ?_
      exact w_iret F (by omega) (by omega) (⟨by rw [e]; rfl, by rw [e]; exact hv, fun _ _ => rfl⟩) dX0_goDrawn_63
  refine w_aload_n F dX0_goDrawn_0 rfl rfl ?_
  refine w_callV F (As := []) (ct_manyS hE γ hk hv.1 hb2) (lw_V q396 q397 q398 q71 q399) md_X1_many (by omega) (cell_stO (by omega)) rfl rfl rfl rfl (Nat.le_of_ble_eq_true rfl) dX0_goDrawn_1 ⟨by omega, by omega⟩ ⟨by omega, by omega⟩ ?_
  rintro _ _ ⟨rfl, rfl⟩
  refine w_istore_n F dX0_goDrawn_4 (by decide) rfl (lv' := [(0, _), (1, _), (2, _), (3, _)]) rfl ?_
  refine w_iload_n F dX0_goDrawn_5 rfl ?_
  refine w_iconst F dX0_goDrawn_6 ?_
  refine w_irem F dX0_goDrawn_7 (by omega) (by first | assumption | exact inR0 | exact (hR _ _ _).1 | (constructor <;> omega)) (by decide) (by decide) ?_
  refine w_iconst F dX0_goDrawn_8 ?_
  refine w_icmp_ge F (tgt := 43) dX0_goDrawn_9 (by decide) (by first | assumption | exact inR0 | exact (hR _ _ _).1 | (constructor <;> omega)) (by first | assumption | exact inR0 | exact (hR _ _ _).1 | (constructor <;> omega)) (fun h1 => ?_) (fun h1 => ?_)
  · exact rest (by omega)
  · refine w_iload_n F dX0_goDrawn_12 rfl ?_
    refine w_bipush F dX0_goDrawn_13 rfl ?_
    refine w_icmp_ge F (tgt := 43) dX0_goDrawn_15 (by decide) (by first | assumption | exact inR0 | exact (hR _ _ _).1 | (constructor <;> omega)) (by first | assumption | exact inR0 | exact (hR _ _ _).1 | (constructor <;> omega)) (fun h2 => ?_) (fun h2 => ?_)
    · exact rest (by omega)
    · have e : dtn v n = (addV v ((n / 4 % 4 : Nat) : Int) ((n / 16 % 100 : Nat) : Int) ((n / 32 % 100 : Nat) : Int) 1, (addO (keyT (upT v.2.1 (fj v.1) ((n / 4 % 4 : Nat) : Int) ((n / 16 % 100 : Nat) : Int) ((n / 32 % 100 : Nat) : Int) 1)) (fj v.1) (some v.2.2)).2) := by unfold dtn; rw [if_pos ⟨by omega, by omega⟩]
      refine w_aload_n F dX0_goDrawn_18 rfl rfl ?_
      refine w_iload_n F dX0_goDrawn_19 rfl ?_
      refine w_iconst F dX0_goDrawn_20 ?_
      refine w_idiv F dX0_goDrawn_21 (by omega) (by first | assumption | exact inR0 | exact (hR _ _ _).1 | (constructor <;> omega)) (by decide) (by decide) ?_
      refine w_iconst F dX0_goDrawn_22 ?_
      refine w_irem F dX0_goDrawn_23 (by omega) (by first | assumption | exact inR0 | exact (hR _ _ _).1 | (constructor <;> omega)) (by decide) (by decide) ?_
      refine w_top (z' := ((n / 4 % 4 : Nat) : Int)) (by omega) ?_
      refine w_iload_n F dX0_goDrawn_24 rfl ?_
      refine w_bipush F dX0_goDrawn_25 rfl ?_
      refine w_idiv F dX0_goDrawn_27 (by omega) (by first | assumption | exact inR0 | exact (hR _ _ _).1 | (constructor <;> omega)) (by decide) (by decide) ?_
      refine w_bipush F dX0_goDrawn_28 rfl ?_
      refine w_irem F dX0_goDrawn_30 (by omega) (by first | assumption | exact inR0 | exact (hR _ _ _).1 | (constructor <;> omega)) (by decide) (by decide) ?_
      refine w_top (z' := ((n / 16 % 100 : Nat) : Int)) (by omega) ?_
      refine w_iload_n F dX0_goDrawn_31 rfl ?_
      refine w_bipush F dX0_goDrawn_32 rfl ?_
      refine w_idiv F dX0_goDrawn_34 (by omega) (by first | assumption | exact inR0 | exact (hR _ _ _).1 | (constructor <;> omega)) (by decide) (by decide) ?_
      refine w_bipush F dX0_goDrawn_35 rfl ?_
      refine w_irem F dX0_goDrawn_37 (by omega) (by first | assumption | exact inR0 | exact (hR _ _ _).1 | (constructor <;> omega)) (by decide) (by decide) ?_
      refine w_top (z' := ((n / 32 % 100 : Nat) : Int)) (by omega) ?_
      refine w_iconst F dX0_goDrawn_38 ?_
      refine w_callV F (As := [_, _, _, _]) (ct_addS hE hA γ hk hv hV (kd := ((n / 4 % 4 : Nat) : Int)) (s := ((n / 16 % 100 : Nat) : Int)) (d := ((n / 32 % 100 : Nat) : Int)) (ln := 1) ⟨by omega, by omega, by omega, by omega⟩ (by omega)) (lw_V q406 q407 q408 q71 q409) md_X1_add (by omega) (cell_stO (by omega)) rfl rfl rfl rfl (Nat.le_of_ble_eq_true rfl) dX0_goDrawn_39 ⟨by omega, by omega⟩ ⟨by omega, by omega⟩ ?_
      rintro _ g ⟨rfl, s1, o1⟩
      exact w_iret F (by omega) (by omega) (⟨by rw [e]; rfl, by rw [e]; exact s1, o1⟩) dX0_goDrawn_42
theorem ct_dayD (hE : EOk E) (hA : AhOk l E) (hH : HoOk l E) (γ : GG) {v : VV} (hS : SV (γ 3) v) (hV : VOk v) {s t w : Int} (hs : InR s) (ht : InR t) (hw : InR w) : Ct l yX0_day cX0_day 8 (some .int) E 1200 60000 [.ref (E.ad 0), .int (iI s), .int (iI t), .int (iI w)] γ (fun r g => OnlyS 2 γ g ∧ ((¬ okD s t w ∧ r = some (.int (iI (-1)))) ∨ (okD s t w ∧ r = some (.int (iI (qDay v s t w)))))) 80 1280 := by
  refine Ct.of hE (by decide) (Nat.le_of_ble_eq_true rfl) (fun Φ hLn hΦ F hfr hlo => ?_)
  subst hLn; subst hΦ
  have h414 := F.ok.1.2.2
  have hrc := F.rc
  have hrs := F.rs
  show Wg Φ 8 _ 0 0 0 [(0, _), (1, _), (2, _), (3, _)] []
  refine w_rng (fun hR => ?_)
  have bad : ¬ okD s t w → Wg Φ 8 γ 0 0 36 [(0, .ref (Φ.E.ad 0)), (1, .int (iI s)), (2, .int (iI t)), (3, .int (iI w))] [] := by
    intro hn
    refine w_iconst F dX0_day_36 ?_
    exact w_iret F (by omega) (by omega) (⟨fun _ _ => rfl, Or.inl ⟨hn, rfl⟩⟩) dX0_day_37
  refine w_iload_n F dX0_day_0 rfl ?_
  refine w_i2l F dX0_day_1 (by first | assumption | exact inR0 | exact (hR _ _ _).1 | (constructor <;> omega)) ?_
  refine w_lconst F dX0_day_2 ?_
  refine w_topL (z' := 0) rfl ?_
  refine w_ldc2 F q786 dX0_day_3 ?_
  refine w_topL (z' := 9999) rfl ?_
  refine w_callS F (As := [_, _, _]) (ct_isIn hE γ hs inR0 (by decide)) (lw_S q279 q280 q70 q281) md_X0_isIn rfl rfl (Nat.le_of_ble_eq_true rfl) dX0_day_6 ⟨by omega, by omega⟩ ⟨by omega, by omega⟩ ?_
  rintro _ _ ⟨rfl, rfl⟩
  refine w_if_eq F (tgt := 36) dX0_day_9 (by decide) (b2i_R _) (fun h1 => ?_) (fun h1 => ?_)
  · rw [b2i_0] at h1
    exact bad (fun q => h1 q.1)
  · rw [b2i_n0] at h1
    refine w_iload_n F dX0_day_12 rfl ?_
    refine w_i2l F dX0_day_13 (by first | assumption | exact inR0 | exact (hR _ _ _).1 | (constructor <;> omega)) ?_
    refine w_lconst F dX0_day_14 ?_
    refine w_topL (z' := 1) rfl ?_
    refine w_ldc2 F q787 dX0_day_15 ?_
    refine w_topL (z' := 40) rfl ?_
    refine w_callS F (As := [_, _, _]) (ct_isIn hE γ ht (by decide) (by decide)) (lw_S q279 q280 q70 q281) md_X0_isIn rfl rfl (Nat.le_of_ble_eq_true rfl) dX0_day_18 ⟨by omega, by omega⟩ ⟨by omega, by omega⟩ ?_
    rintro _ _ ⟨rfl, rfl⟩
    refine w_if_eq F (tgt := 36) dX0_day_21 (by decide) (b2i_R _) (fun h2 => ?_) (fun h2 => ?_)
    · rw [b2i_0] at h2
      exact bad (fun q => h2 q.2.1)
    · rw [b2i_n0] at h2
      refine w_iload_n F dX0_day_24 rfl ?_
      refine w_i2l F dX0_day_25 (by first | assumption | exact inR0 | exact (hR _ _ _).1 | (constructor <;> omega)) ?_
      refine w_lconst F dX0_day_26 ?_
      refine w_topL (z' := 0) rfl ?_
      refine w_ldc2 F q395 dX0_day_27 ?_
      refine w_topL (z' := 2) rfl ?_
      refine w_callS F (As := [_, _, _]) (ct_isIn hE γ hw inR0 (by decide)) (lw_S q279 q280 q70 q281) md_X0_isIn rfl rfl (Nat.le_of_ble_eq_true rfl) dX0_day_30 ⟨by omega, by omega⟩ ⟨by omega, by omega⟩ ?_
      rintro _ _ ⟨rfl, rfl⟩
      refine w_if_ne F (tgt := 38) dX0_day_33 (by decide) (b2i_R _) (fun h3 => ?_) (fun h3 => ?_)
      · rw [b2i_n0] at h3
        obtain ⟨sn, rfl⟩ : ∃ n : Nat, s = (n : Int) := ⟨s.toNat, by omega⟩
        obtain ⟨tn, rfl⟩ : ∃ n : Nat, t = (n : Int) := ⟨t.toNat, by omega⟩
        refine w_iconst F dX0_day_38 ?_
        refine w_istore F dX0_day_39 (by decide) rfl (lv' := [(0, _), (1, _), (2, _), (3, _), (4, _)]) rfl ?_
        refine w_aload_n F dX0_day_41 rfl rfl ?_
        refine w_get F (by omega) rfl rfl in_X0 3 (by decide) (Or.inl q543) rfl dX0_day_42 ?_
        refine w_aload_n F dX0_day_45 rfl rfl ?_
        refine w_get F (by omega) rfl rfl in_X0 2 (by decide) (Or.inl q542) rfl dX0_day_46 ?_
        refine w_callV F (As := [_]) (ct_copyS hE γ (k := 2) (k2 := 1) (by omega) (by omega) (by omega)) (lw_V q528 q529 q530 q71 q531) md_X1_copy (by omega) (cell_stO (by omega)) rfl rfl rfl rfl (Nat.le_of_ble_eq_true rfl) dX0_day_49 ⟨by omega, by omega⟩ ⟨by omega, by omega⟩ ?_
        rintro _ g1 ⟨rfl, c1, o1⟩
        have hS1 : SV (g1 4) v := hS.cp hV.1.1 c1
        refine w_iconst F dX0_day_52 ?_
        refine w_istore F dX0_day_53 (by decide) rfl (lv' := [(0, _), (1, _), (2, _), (3, _), (4, _), (5, _)]) rfl ?_
        have fin : ∀ g : GG, SV (g 4) (dyn sn v tn).1 → OnlyS 2 γ g → Wg Φ 8 g (2 * tn) (32 * tn) 108 [(0, .ref (Φ.E.ad 0)), (1, .int (iI (sn : Int))), (2, .int (iI (tn : Int))), (3, .int (iI w)), (4, .int (iI ((dyn sn v tn).2 : Int)))] [] := by
          intro g a1 a2
          have hVt := dyn_ok (s := sn) hV tn
          obtain ⟨vt, hvt⟩ : ∃ q, q = (dyn sn v tn).1 := ⟨_, rfl⟩
          have hq : qDay v (sn : Int) (tn : Int) w = if w = 0 then (cnt vt.1 12 : Int) else if w = 1 then bst (rkT vt.2.1) (fun _ => true) (tl vt.2.2) else ((dyn sn v tn).2 : Int) := by unfold qDay; rw [Int.toNat_natCast, Int.toNat_natCast, ← hvt]
          rw [← hvt] at hVt a1
          obtain ⟨v1, ⟨x, ns, hroot, hr0, hnd, hU⟩, v3⟩ := id a1
          have hx := hr0.lt
          have hhold := hr0.hold
          refine w_iload_n F dX0_day_108 rfl ?_
          refine w_if_ne F (tgt := 122) dX0_day_109 (by decide) (by first | assumption | exact inR0 | exact (hR _ _ _).1 | (constructor <;> omega)) (fun h4 => ?_) (fun h4 => ?_)
          · refine w_iload_n F dX0_day_122 rfl ?_
            refine w_iconst F dX0_day_123 ?_
            refine w_icmp_ne F (tgt := 140) dX0_day_124 (by decide) (by first | assumption | exact inR0 | exact (hR _ _ _).1 | (constructor <;> omega)) (by first | assumption | exact inR0 | exact (hR _ _ _).1 | (constructor <;> omega)) (fun h5 => ?_) (fun h5 => ?_)
            · refine w_iload F dX0_day_140 rfl ?_
              exact w_iret F (by omega) (by omega) (⟨a2, Or.inr ⟨⟨h1, h2, h3⟩, by rw [hq, if_neg h4, if_neg h5]⟩⟩) dX0_day_142
            · refine w_aload_n F dX0_day_127 rfl rfl ?_
              refine w_get F (by omega) rfl rfl in_X0 3 (by decide) (Or.inl q543) rfl dX0_day_128 ?_
              refine w_getF F (fS2 _ (by omega)) (by omega) rfl in_X1 (by decide) (Or.inr q152) dX0_day_131 ?_
              refine w_toN (i := 2) hroot ?_
              refine w_getF F (fN5 _ (by omega) (by omega)) (by omega) rfl in_X2 (by decide) (Or.inr q127) dX0_day_134 ?_
              refine w_top hhold ?_
              refine w_goto F (tgt := 142) dX0_day_137 (by decide) ?_
              exact w_iret F (by omega) (by omega) (⟨a2, Or.inr ⟨⟨h1, h2, h3⟩, by rw [hq, if_neg h4, if_pos (by omega)]⟩⟩) dX0_day_142
          · refine w_aload_n F dX0_day_112 rfl rfl ?_
            refine w_get F (by omega) rfl rfl in_X0 3 (by decide) (Or.inl q543) rfl dX0_day_113 ?_
            refine w_callV F (As := []) (ct_manyS hE g (k := 2) (by omega) v1 hVt.1.1.1) (lw_V q396 q397 q398 q71 q399) md_X1_many (by omega) (cell_stO (by omega)) rfl rfl rfl rfl (Nat.le_of_ble_eq_true rfl) dX0_day_116 ⟨by omega, by omega⟩ ⟨by omega, by omega⟩ ?_
            rintro _ _ ⟨rfl, rfl⟩
            refine w_goto F (tgt := 142) dX0_day_119 (by decide) ?_
            exact w_iret F (by omega) (by omega) (⟨a2, Or.inr ⟨⟨h1, h2, h3⟩, by rw [hq, if_pos (by omega)]⟩⟩) dX0_day_142
        have loop : ∀ (m i : Nat) (g : GG), i ≤ tn → tn - i < m → SV (g 4) (dyn sn v i).1 → OnlyS 2 γ g → Wg Φ 8 g (2 * i) (32 * i) 55 [(0, .ref (Φ.E.ad 0)), (1, .int (iI (sn : Int))), (2, .int (iI (tn : Int))), (3, .int (iI w)), (4, .int (iI ((dyn sn v i).2 : Int))), (5, .int (iI (i : Int)))] [] := by
          intro m
          induction m with
          | zero => intro i g b1 b2; omega
          | succ m ih =>
            intro i g b1 b2 a1 a2
            have hVi := dyn_ok (s := sn) hV i
            refine w_iload F dX0_day_55 rfl ?_
            refine w_iload_n F dX0_day_57 rfl ?_
            refine w_icmp_ge F (tgt := 108) dX0_day_58 (by decide) (by first | assumption | exact inR0 | exact (hR _ _ _).1 | (constructor <;> omega)) (by first | assumption | exact inR0 | exact (hR _ _ _).1 | (constructor <;> omega)) (fun h4 => ?_) (fun h4 => ?_)
            · have e : i = tn := by omega
              subst e
              refine w_keep [0, 1, 2, 3, 4] (lv' := [(0, _), (1, _), (2, _), (3, _), (4, _)]) rfl ?_
              exact fin g a1 a2
            · obtain ⟨x, hx⟩ : ∃ x : Nat, x = 7919 * sn + 6151 * i + 1 := ⟨_, rfl⟩
              have hxl : x ≤ 80000000 := by omega
              have hxx : x * x ≤ 80000000 * 80000000 := Nat.mul_le_mul hxl hxl
              have e1 : (7919 : Int64).toInt = 7919 := rfl
              have e2 : (6151 : Int64).toInt = 6151 := rfl
              refine w_ldc2 F q788 dX0_day_61 ?_
              refine w_iload_n F dX0_day_64 rfl ?_
              refine w_i2l F dX0_day_65 (by first | assumption | exact inR0 | exact (hR _ _ _).1 | (constructor <;> omega)) ?_
              refine w_lmul F dX0_day_66 ?_
              refine w_ldc2 F q789 dX0_day_67 ?_
              refine w_iload F dX0_day_70 rfl ?_
              refine w_i2l F dX0_day_72 (by first | assumption | exact inR0 | exact (hR _ _ _).1 | (constructor <;> omega)) ?_
              refine w_lmul F dX0_day_73 ?_
              refine w_ladd F dX0_day_74 ?_
              refine w_lconst F dX0_day_75 ?_
              refine w_ladd F dX0_day_76 ?_
              refine w_topL (z' := (x : Int)) (by rw [e1, e2]; simp; omega) ?_
              refine w_lstore F dX0_day_77 (by decide) rfl (lv' := [(0, _), (1, _), (2, _), (3, _), (4, _), (5, _), (6, _)]) rfl ?_
              refine w_iload F dX0_day_79 rfl ?_
              refine w_aload_n F dX0_day_81 rfl rfl ?_
              refine w_aload_n F dX0_day_82 rfl rfl ?_
              refine w_get F (by omega) rfl rfl in_X0 3 (by decide) (Or.inl q543) rfl dX0_day_83 ?_
              refine w_lload F dX0_day_86 rfl ?_
              refine w_lload F dX0_day_88 rfl ?_
              refine w_lmul F dX0_day_90 ?_
              refine w_topL (z' := ((x * x : Nat) : Int)) (by rw [Int.natCast_mul]) ?_
              refine w_ldc2 F q790 dX0_day_91 ?_
              refine w_topL (z' := ((65521 : Nat) : Int)) rfl ?_
              refine w_lrem F dX0_day_94 (by omega) (by omega) (by omega) ?_
              rw [show x * x % 65521 = dyx sn i by rw [hx]; rfl]
              have hdl : dyx sn i < 65521 := Nat.mod_lt _ (by decide)
              refine w_l2i F dX0_day_95 ?_
              refine w_callV F (As := [_, _]) (ct_goDrawn hE hA hH g (k := 2) (by omega) a1 hVi.1 (n := dyx sn i) (by omega)) (lw_V q791 q793 qs31 q70 q794) md_X0_goDrawn (by omega) rfl rfl rfl rfl rfl (Nat.le_of_ble_eq_true rfl) dX0_day_96 ⟨by omega, by omega⟩ ⟨by omega, by omega⟩ ?_
              rintro _ g2 ⟨rfl, s1, o2⟩
              refine w_iadd F dX0_day_99 ?_
              refine w_top (z' := ((dyn sn v (i + 1)).2 : Int)) (by simp [dyn]) ?_
              refine w_istore F dX0_day_100 (by decide) rfl (lv' := [(0, _), (1, _), (2, _), (3, _), (4, _), (5, _), (6, _)]) rfl ?_
              refine w_iinc F dX0_day_102 rfl (by decide) rfl (lv' := [(0, _), (1, _), (2, _), (3, _), (4, _), (5, _), (6, _)]) rfl ?_
              refine w_goto F (tgt := 55) dX0_day_105 (by decide) ?_
              refine w_keep [0, 1, 2, 3, 4, 5] (lv' := [(0, _), (1, _), (2, _), (3, _), (4, _), (5, _)]) rfl ?_
              refine w_widen (k' := 2 * (i + 1)) (n' := 32 * (i + 1)) (by omega) (by omega) ?_
              exact ih (i + 1) g2 (by omega) (by omega) s1 (a2.tr o2)
        exact loop (tn + 1) 0 g1 (by omega) (by omega) hS1 o1
      · rw [b2i_0] at h3
        exact bad (fun q => h3 q.2.2)
end D15
