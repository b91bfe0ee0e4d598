/-! DeadlineTree: holdOf, node -/
theorem tab1 {c : Code} {a b d e : Nat} (h : tabOf c [(a, b, d, e)]) : ∃ x : ExceptionTableEntry, c.exceptionTable.toList = [x] ∧ x.startPc = a ∧ x.endPc = b ∧ x.handlerPc = d ∧ x.catchType = e := by
  cases hl : c.exceptionTable.toList with
  | nil => rw [tabOf, hl] at h; cases h
  | cons x r =>
    rw [tabOf, hl] at h
    simp at h
    obtain ⟨⟨h1, h2, h3, h4⟩, h5⟩ := h
    exact ⟨x, by rw [h5], h1, h2, h3, h4⟩
theorem RC.sp {T σ : Nat → Nat → Int} : ∀ {t : TT} {x : Nat} {S : Nat → Bool} {ns : List Nat}, RC T σ t x S ns → σ 23 x = spS t T ∧ σ 24 x = spN t
  | .leaf _, _, _, _, h => ⟨h.2.2.2.2.1, h.2.2.2.2.2.1⟩
  | .branch κ _ _, _, _, _, ⟨_, _, _, _, _, _, _, _, h, _⟩ => by
    simp only [spS, spN]
    omega
section D16
variable {l : Launch} {E : EE}
theorem ct_holdN (hE : EOk E) (γ : GG) {i x : Nat} (hi : i < 13) (hx : x < 23) : CtW l yX0_holdOf cX0_holdOf 2 (some .int) [(0, 4, 5, 7)] E 100 16000 [.ref (E.ad (19 + 31 * i + x))] γ (pI (γ (2 + i) 25 x) γ) 0 0 := by
  refine CtW.of hE (by decide) (Nat.le_of_ble_eq_true rfl) (fun Φ hLn hΦ F htab hfr hlo => ?_)
  subst hLn; subst hΦ
  have h414 := F.ok.1.2.2
  have hrc := F.rc
  have hrs := F.rs
  show Wg Φ 2 _ 0 0 0 [(0, _)] []
  refine w_rng (fun hR => ?_)
  refine w_aload_n F dX0_holdOf_0 rfl rfl ?_
  refine w_getF F (fN5 _ (by omega) (by omega)) (by omega) rfl in_X2 (by decide) (Or.inr q127) dX0_holdOf_1 ?_
  exact w_iret F (by omega) (by omega) (⟨rfl, rfl⟩) dX0_holdOf_4
theorem ct_hold0 (hE : EOk E) (hN : StOk E) (hfl : l.flags = flags0) (γ : GG) : CtW l yX0_holdOf cX0_holdOf 2 (some .int) [(0, 4, 5, 7)] E 100 16000 [.null] γ (pI (-4) γ) 1 16 := by
  refine CtW.of hE (by decide) (Nat.le_of_ble_eq_true rfl) (fun Φ hLn hΦ F htab hfr hlo => ?_)
  subst hLn; subst hΦ
  have h414 := F.ok.1.2.2
  have hrc := F.rc
  have hrs := F.rs
  show Wg Φ 2 _ 0 0 0 [(0, _)] []
  refine w_rng (fun hR => ?_)
  obtain ⟨x0, hx1, e1, e2, e3, e4⟩ := tab1 htab
  refine w_aload_n F dX0_holdOf_0 rfl (by first | rfl | exact rf_isRef _) ?_
  refine w_npeC F hN hfl hx1 (by simp [covers, e1, e2]) (by rw [e4]; decide) (by rw [e4]; exact q616) (ci := 2) rfl in_X2 5 (by decide) (Or.inr q127) dX0_holdOf_1 (Nat.le_of_ble_eq_true rfl) ⟨by omega, by omega⟩ ⟨by omega, by omega⟩ (fun a => ?_)
  rw [e3]
  refine w_astore_n F dX0_holdOf_5 (by decide) (by first | rfl | (generalize onode _ _ _ = o; cases o <;> rfl)) (lv' := [(0, _), (1, _)]) rfl rfl ?_
  refine w_bipush F dX0_holdOf_6 rfl ?_
  exact w_iret F (by omega) (by omega) (⟨rfl, rfl⟩) dX0_holdOf_8
theorem ho_ok (hN : StOk E) (hfl : l.flags = flags0) : HoOk l E := by
  refine ⟨?_, ?_⟩
  · intro Φ cc own nL ret post mc ms γ k n pc lv rest index i x hl hE F hi hx hlk hcat hdg hR hf h
    subst hl; subst hE
    refine w_callSNW F (As := [_]) (ct_holdN F.ok γ hi hx) hlk q679 q70 q680 md_X0_holdOf rfl rfl hcat hdg ⟨by omega, by omega⟩ ⟨by omega, by omega⟩ ?_
    rintro _ _ ⟨rfl, rfl⟩
    exact h
  · intro Φ cc own nL ret post mc ms γ k n pc lv rest index hl hE F hlk hcat hdg hR hf h
    subst hl; subst hE
    refine w_callSNW F (As := [_]) (ct_hold0 F.ok hN hfl γ) hlk q679 q70 q680 md_X0_holdOf rfl rfl hcat hdg ⟨by omega, by omega⟩ ⟨by omega, by omega⟩ ?_
    rintro _ _ ⟨rfl, rfl⟩
    exact h
theorem ct_nodeD (hE : EOk E) (hN : StOk E) (hfl : l.flags = flags0) (γ : GG) {v : VV} (hS : SV (γ 3) v) {p w : Int} (hp : InR p) (hw : InR w) : CtW l yX0_node cX0_node 5 (some .int) [(34, 114, 115, 7)] E 300 24000 [.ref (E.ad 0), .int (iI p), .int (iI w)] γ (fun r g => γ = g ∧ ((¬ ((1 ≤ p ∧ p ≤ 4095) ∧ 0 ≤ w ∧ w ≤ 3) ∧ r = some (.int (iI (-1)))) ∨ ((1 ≤ p ∧ p ≤ 4095) ∧ (0 ≤ w ∧ w ≤ 3) ∧ r = some (.int (iI (qNode v p.toNat w)))))) 1 8 := by
  refine CtW.of hE (by decide) (Nat.le_of_ble_eq_true rfl) (fun Φ hLn hΦ F htab hfr hlo => ?_)
  subst hLn; subst hΦ
  have h414 := F.ok.1.2.2
  have hrc := F.rc
  have hrs := F.rs
  show Wg Φ 5 _ 0 0 0 [(0, _), (1, _), (2, _)] []
  refine w_rng (fun hR => ?_)
  obtain ⟨x0, hx1, e1, e2, e3, e4⟩ := tab1 htab
  obtain ⟨v1, ⟨x, ns, hroot, hr0, hnd, hU⟩, v3⟩ := id hS
  have bad : ¬ ((1 ≤ p ∧ p ≤ 4095) ∧ 0 ≤ w ∧ w ≤ 3) → Wg Φ 5 γ 0 0 24 [(0, .ref (Φ.E.ad 0)), (1, .int (iI p)), (2, .int (iI w))] [] := by
    intro hn
    refine w_iconst F dX0_node_24 ?_
    exact w_iret F (by omega) (by omega) (⟨rfl, Or.inl ⟨hn, rfl⟩⟩) dX0_node_25
  refine w_iload_n F dX0_node_0 rfl ?_
  refine w_i2l F dX0_node_1 (by first | assumption | exact inR0 | exact (hR _ _ _).1 | (constructor <;> omega)) ?_
  refine w_lconst F dX0_node_2 ?_
  refine w_topL (z' := 1) rfl ?_
  refine w_ldc2 F q641 dX0_node_3 ?_
  refine w_topL (z' := 4095) rfl ?_
  refine w_callS F (As := [_, _, _]) (ct_isIn hE γ hp (by decide) (by decide)) (lw_S q279 q280 q70 q281) md_X0_isIn rfl rfl (Nat.le_of_ble_eq_true rfl) dX0_node_6 ⟨by omega, by omega⟩ ⟨by omega, by omega⟩ ?_
  rintro _ _ ⟨rfl, rfl⟩
  refine w_if_eq F (tgt := 24) dX0_node_9 (by decide) (b2i_R _) (fun h1 => ?_) (fun h1 => ?_)
  · rw [b2i_0] at h1
    exact bad (fun q => h1 q.1)
  · rw [b2i_n0] at h1
    refine w_iload_n F dX0_node_12 rfl ?_
    refine w_i2l F dX0_node_13 (by first | assumption | exact inR0 | exact (hR _ _ _).1 | (constructor <;> omega)) ?_
    refine w_lconst F dX0_node_14 ?_
    refine w_topL (z' := 0) rfl ?_
    refine w_ldc2 F q642 dX0_node_15 ?_
    refine w_topL (z' := 3) rfl ?_
    refine w_callS F (As := [_, _, _]) (ct_isIn hE γ hw inR0 (by decide)) (lw_S q279 q280 q70 q281) md_X0_isIn rfl rfl (Nat.le_of_ble_eq_true rfl) dX0_node_18 ⟨by omega, by omega⟩ ⟨by omega, by omega⟩ ?_
    rintro _ _ ⟨rfl, rfl⟩
    refine w_if_ne F (tgt := 26) dX0_node_21 (by decide) (b2i_R _) (fun h2 => ?_) (fun h2 => ?_)
    · rw [b2i_n0] at h2
      obtain ⟨pn, rfl⟩ : ∃ n : Nat, p = (n : Int) := ⟨p.toNat, by omega⟩
      obtain ⟨tg, htg⟩ : ∃ t, t = nav (rkT v.2.1) pn (Nat.log2 pn) v.2.2 (fun _ => true) := ⟨_, rfl⟩
      have hl12 : Nat.log2 pn < 12 := by
        rw [Nat.log2_lt (by omega)]
        omega
      have fin0 : ∀ (c : Value) (a : Nat), tg = none → Wg Φ 5 γ 1 8 x0.handlerPc [(0, .ref (Φ.E.ad 0)), (1, .int (iI (pn : Int))), (2, .int (iI w)), (3, .null)] [.ref a] := by
        intro c a hn
        rw [e3]
        refine w_astore F dX0_node_115 (by decide) (by first | rfl | (generalize onode _ _ _ = o; cases o <;> rfl)) (lv' := [(0, _), (1, _), (2, _), (3, _), (4, _)]) rfl rfl ?_
        refine w_bipush F dX0_node_117 rfl ?_
        exact w_iret F (by omega) (by omega) (⟨rfl, Or.inr ⟨h1, h2, by rw [Int.toNat_natCast]; unfold qNode; rw [← htg, hn]⟩⟩) dX0_node_119
      have dead : ∀ (m : Nat) (z : Int), z = (m : Int) - 1 → m ≤ 12 → tg = none → Wg Φ 5 γ 0 0 43 [(0, .ref (Φ.E.ad 0)), (1, .int (iI (pn : Int))), (2, .int (iI w)), (3, .null), (4, .int (iI z))] [] := by
        intro m z hz hm hn
        refine w_iload F dX0_node_43 rfl ?_
        refine w_if_lt F (tgt := 75) dX0_node_45 (by decide) (by first | assumption | exact inR0 | exact (hR _ _ _).1 | (constructor <;> omega)) (fun h3 => ?_) (fun h3 => ?_)
        · refine w_iload_n F dX0_node_75 rfl ?_
          refine w_if_ne F (tgt := 86) dX0_node_76 (by decide) (by first | assumption | exact inR0 | exact (hR _ _ _).1 | (constructor <;> omega)) (fun h4 => ?_) (fun h4 => ?_)
          · refine w_iload_n F dX0_node_86 rfl ?_
            refine w_iconst F dX0_node_87 ?_
            refine w_icmp_ne F (tgt := 98) dX0_node_88 (by decide) (by first | assumption | exact inR0 | exact (hR _ _ _).1 | (constructor <;> omega)) (by first | assumption | exact inR0 | exact (hR _ _ _).1 | (constructor <;> omega)) (fun h5 => ?_) (fun h5 => ?_)
            · refine w_iload_n F dX0_node_98 rfl ?_
              refine w_iconst F dX0_node_99 ?_
              refine w_icmp_ne F (tgt := 110) dX0_node_100 (by decide) (by first | assumption | exact inR0 | exact (hR _ _ _).1 | (constructor <;> omega)) (by first | assumption | exact inR0 | exact (hR _ _ _).1 | (constructor <;> omega)) (fun h6 => ?_) (fun h6 => ?_)
              · refine w_aload_n F dX0_node_110 rfl (by first | rfl | exact rf_isRef _) ?_
                refine w_npeC F hN hfl hx1 (by simp [covers, e1, e2]) (by rw [e4]; decide) (by rw [e4]; exact q616) (ci := 2) rfl in_X2 6 (by decide) (Or.inr q131) dX0_node_111 (Nat.le_of_ble_eq_true rfl) ⟨by omega, by omega⟩ ⟨by omega, by omega⟩ (fun a => ?_)
                refine w_keep [0, 1, 2, 3] (lv' := [(0, _), (1, _), (2, _), (3, _)]) rfl ?_
                exact fin0 .null a hn
              · refine w_aload_n F dX0_node_103 rfl (by first | rfl | exact rf_isRef _) ?_
                refine w_npeC F hN hfl hx1 (by simp [covers, e1, e2]) (by rw [e4]; decide) (by rw [e4]; exact q616) (ci := 2) rfl in_X2 4 (by decide) (Or.inr q126) dX0_node_104 (Nat.le_of_ble_eq_true rfl) ⟨by omega, by omega⟩ ⟨by omega, by omega⟩ (fun a => ?_)
                refine w_keep [0, 1, 2, 3] (lv' := [(0, _), (1, _), (2, _), (3, _)]) rfl ?_
                exact fin0 .null a hn
            · refine w_aload_n F dX0_node_91 rfl (by first | rfl | exact rf_isRef _) ?_
              refine w_npeC F hN hfl hx1 (by simp [covers, e1, e2]) (by rw [e4]; decide) (by rw [e4]; exact q616) (ci := 2) rfl in_X2 3 (by decide) (Or.inr q123) dX0_node_92 (Nat.le_of_ble_eq_true rfl) ⟨by omega, by omega⟩ ⟨by omega, by omega⟩ (fun a => ?_)
              refine w_keep [0, 1, 2, 3] (lv' := [(0, _), (1, _), (2, _), (3, _)]) rfl ?_
              exact fin0 .null a hn
          · refine w_aload_n F dX0_node_79 rfl (by first | rfl | exact rf_isRef _) ?_
            refine w_npeC F hN hfl hx1 (by simp [covers, e1, e2]) (by rw [e4]; decide) (by rw [e4]; exact q616) (ci := 2) rfl in_X2 5 (by decide) (Or.inr q127) dX0_node_80 (Nat.le_of_ble_eq_true rfl) ⟨by omega, by omega⟩ ⟨by omega, by omega⟩ (fun a => ?_)
            refine w_keep [0, 1, 2, 3] (lv' := [(0, _), (1, _), (2, _), (3, _)]) rfl ?_
            exact fin0 .null a hn
        · obtain ⟨mm, rfl⟩ : ∃ mm : Nat, z = (mm : Int) := ⟨z.toNat, by omega⟩
          refine w_iload_n F dX0_node_48 rfl ?_
          refine w_iload F dX0_node_49 rfl ?_
          refine w_callS F (As := [_, _]) (ct_hasD hE γ (a := pn) (j := mm) (by omega) (by omega)) (lw_S q605 q606 q70 q607) md_X0_has rfl rfl (Nat.le_of_ble_eq_true rfl) dX0_node_51 ⟨by omega, by omega⟩ ⟨by omega, by omega⟩ ?_
          rintro _ _ ⟨rfl, rfl⟩
          refine w_if_eq F (tgt := 64) dX0_node_54 (by decide) (b2i_R _) (fun h4 => ?_) (fun h4 => ?_)
          · refine w_aload_n F dX0_node_64 rfl (by first | rfl | exact rf_isRef _) ?_
            refine w_npeC F hN hfl hx1 (by simp [covers, e1, e2]) (by rw [e4]; decide) (by rw [e4]; exact q616) (ci := 2) rfl in_X2 1 (by decide) (Or.inr q117) dX0_node_65 (Nat.le_of_ble_eq_true rfl) ⟨by omega, by omega⟩ ⟨by omega, by omega⟩ (fun a => ?_)
            refine w_keep [0, 1, 2, 3] (lv' := [(0, _), (1, _), (2, _), (3, _)]) rfl ?_
            exact fin0 .null a hn
          · refine w_aload_n F dX0_node_57 rfl (by first | rfl | exact rf_isRef _) ?_
            refine w_npeC F hN hfl hx1 (by simp [covers, e1, e2]) (by rw [e4]; decide) (by rw [e4]; exact q616) (ci := 2) rfl in_X2 2 (by decide) (Or.inr q120) dX0_node_58 (Nat.le_of_ble_eq_true rfl) ⟨by omega, by omega⟩ ⟨by omega, by omega⟩ (fun a => ?_)
            refine w_keep [0, 1, 2, 3] (lv' := [(0, _), (1, _), (2, _), (3, _)]) rfl ?_
            exact fin0 .null a hn
      have loop : ∀ (m : Nat) (z : Int) (t : TT) (x : Nat) (S : Nat → Bool) (ns : List Nat), z = (m : Int) - 1 → m ≤ 12 → RC v.2.1 (γ 3) t x S ns → nav (rkT v.2.1) pn m t S = tg → Wg Φ 5 γ 0 0 43 [(0, .ref (Φ.E.ad 0)), (1, .int (iI (pn : Int))), (2, .int (iI w)), (3, .ref (Φ.E.ad (19 + 31 * 1 + x))), (4, .int (iI z))] [] := by
        intro m
        induction m with
        | zero =>
          intro z t x S ns hz hm hr ht
          have hx := hr.lt
          have ht : some (t, S) = tg := by simpa [nav] using ht
          have hq : qNode v (pn : Int).toNat w = if w = 0 then bst (rkT v.2.1) S (tl t) else if w = 1 then spS t v.2.1 else if w = 2 then spN t else ((tl t).length : Int) := by rw [Int.toNat_natCast]; unfold qNode; rw [← htg, ← ht]
          refine w_iload F dX0_node_43 rfl ?_
          refine w_if_lt F (tgt := 75) dX0_node_45 (by decide) (by first | assumption | exact inR0 | exact (hR _ _ _).1 | (constructor <;> omega)) (fun h3 => ?_) (fun h3 => ?_)
          · refine w_iload_n F dX0_node_75 rfl ?_
            refine w_if_ne F (tgt := 86) dX0_node_76 (by decide) (by first | assumption | exact inR0 | exact (hR _ _ _).1 | (constructor <;> omega)) (fun h4 => ?_) (fun h4 => ?_)
            · refine w_iload_n F dX0_node_86 rfl ?_
              refine w_iconst F dX0_node_87 ?_
              refine w_icmp_ne F (tgt := 98) dX0_node_88 (by decide) (by first | assumption | exact inR0 | exact (hR _ _ _).1 | (constructor <;> omega)) (by first | assumption | exact inR0 | exact (hR _ _ _).1 | (constructor <;> omega)) (fun h5 => ?_) (fun h5 => ?_)
              · refine w_iload_n F dX0_node_98 rfl ?_
                refine w_iconst F dX0_node_99 ?_
                refine w_icmp_ne F (tgt := 110) dX0_node_100 (by decide) (by first | assumption | exact inR0 | exact (hR _ _ _).1 | (constructor <;> omega)) (by first | assumption | exact inR0 | exact (hR _ _ _).1 | (constructor <;> omega)) (fun h6 => ?_) (fun h6 => ?_)
                · refine w_aload_n F dX0_node_110 rfl rfl ?_
                  refine w_getF F (fN6 _ (by omega) (by omega)) (by omega) rfl in_X2 (by decide) (Or.inr q131) dX0_node_111 ?_
                  refine w_top (z' := ((tl t).length : Int)) hr.lvs ?_
                  exact w_iret F (by omega) (by omega) (⟨rfl, Or.inr ⟨h1, h2, by rw [hq, if_neg h4, if_neg h5, if_neg h6]⟩⟩) dX0_node_114
                · refine w_aload_n F dX0_node_103 rfl rfl ?_
                  refine w_getF F (fN4 _ (by omega) (by omega)) (by omega) rfl in_X2 (by decide) (Or.inr q126) dX0_node_104 ?_
                  refine w_top (z' := spN t) hr.sp.2 ?_
                  refine w_goto F (tgt := 114) dX0_node_107 (by decide) ?_
                  exact w_iret F (by omega) (by omega) (⟨rfl, Or.inr ⟨h1, h2, by rw [hq, if_neg h4, if_neg h5, if_pos (by omega)]⟩⟩) dX0_node_114
              · refine w_aload_n F dX0_node_91 rfl rfl ?_
                refine w_getF F (fN3 _ (by omega) (by omega)) (by omega) rfl in_X2 (by decide) (Or.inr q123) dX0_node_92 ?_
                refine w_top (z' := spS t v.2.1) hr.sp.1 ?_
                refine w_goto F (tgt := 114) dX0_node_95 (by decide) ?_
                exact w_iret F (by omega) (by omega) (⟨rfl, Or.inr ⟨h1, h2, by rw [hq, if_neg h4, if_pos (by omega)]⟩⟩) dX0_node_114
            · refine w_aload_n F dX0_node_79 rfl rfl ?_
              refine w_getF F (fN5 _ (by omega) (by omega)) (by omega) rfl in_X2 (by decide) (Or.inr q127) dX0_node_80 ?_
              refine w_top (z' := bst (rkT v.2.1) S (tl t)) hr.hold ?_
              refine w_goto F (tgt := 114) dX0_node_83 (by decide) ?_
              exact w_iret F (by omega) (by omega) (⟨rfl, Or.inr ⟨h1, h2, by rw [hq, if_pos (by omega)]⟩⟩) dX0_node_114
          · omega
        | succ m ih =>
          intro z t x S ns hz hm hr ht
          have hx := hr.lt
          have hz' : z = (m : Int) := by omega
          subst hz'
          refine w_iload F dX0_node_43 rfl ?_
          refine w_if_lt F (tgt := 75) dX0_node_45 (by decide) (by first | assumption | exact inR0 | exact (hR _ _ _).1 | (constructor <;> omega)) (fun h3 => ?_) (fun h3 => ?_)
          · omega
          · refine w_iload_n F dX0_node_48 rfl ?_
            refine w_iload F dX0_node_49 rfl ?_
            refine w_callS F (As := [_, _]) (ct_hasD hE γ (a := pn) (j := m) (by omega) (by omega)) (lw_S q605 q606 q70 q607) md_X0_has rfl rfl (Nat.le_of_ble_eq_true rfl) dX0_node_51 ⟨by omega, by omega⟩ ⟨by omega, by omega⟩ ?_
            rintro _ _ ⟨rfl, rfl⟩
            cases t with
            | leaf j =>
              have ht : none = tg := by simpa [nav] using ht
              obtain ⟨_, _, l1, l2, _⟩ := hr
              refine w_if_eq F (tgt := 64) dX0_node_54 (by decide) (b2i_R _) (fun h4 => ?_) (fun h4 => ?_)
              · refine w_aload_n F dX0_node_64 rfl rfl ?_
                refine w_getF F (fN1 _ (by omega) (by omega)) (by omega) rfl in_X2 (by decide) (Or.inr q117) dX0_node_65 ?_
                refine w_toNull (i := 1) (by rw [show γ (2 + 1) 21 x = -1 from l1]; decide) ?_
                refine w_astore_n F dX0_node_68 (by decide) rfl (lv' := [(0, _), (1, _), (2, _), (3, _), (4, _)]) rfl (by first | rfl | exact rf_isRef _) ?_
                refine w_iinc F dX0_node_69 rfl (by decide) (by first | rfl | (generalize onode _ _ _ = o; cases o <;> rfl)) (lv' := [(0, _), (1, _), (2, _), (3, _), (4, _)]) rfl ?_
                refine w_goto F (tgt := 43) dX0_node_72 (by decide) ?_
                exact dead m _ (by omega) (by omega) ht.symm
              · refine w_aload_n F dX0_node_57 rfl rfl ?_
                refine w_getF F (fN2 _ (by omega) (by omega)) (by omega) rfl in_X2 (by decide) (Or.inr q120) dX0_node_58 ?_
                refine w_toNull (i := 1) (by rw [show γ (2 + 1) 22 x = -1 from l2]; decide) ?_
                refine w_goto F (tgt := 68) dX0_node_61 (by decide) ?_
                refine w_astore_n F dX0_node_68 (by decide) rfl (lv' := [(0, _), (1, _), (2, _), (3, _), (4, _)]) rfl (by first | rfl | exact rf_isRef _) ?_
                refine w_iinc F dX0_node_69 rfl (by decide) (by first | rfl | (generalize onode _ _ _ = o; cases o <;> rfl)) (lv' := [(0, _), (1, _), (2, _), (3, _), (4, _)]) rfl ?_
                refine w_goto F (tgt := 43) dX0_node_72 (by decide) ?_
                exact dead m _ (by omega) (by omega) ht.symm
            | branch s a b =>
              obtain ⟨xa, xb, na, nb, f0, f1, f2, f3, f4, f5, f6, f7, f8⟩ := hr
              simp only [nav] at ht
              refine w_if_eq F (tgt := 64) dX0_node_54 (by decide) (b2i_R _) (fun h4 => ?_) (fun h4 => ?_)
              · rw [b2i_0] at h4
                rw [if_neg h4] at ht
                refine w_aload_n F dX0_node_64 rfl rfl ?_
                refine w_getF F (fN1 _ (by omega) (by omega)) (by omega) rfl in_X2 (by decide) (Or.inr q117) dX0_node_65 ?_
                refine w_toN (i := 1) f2 ?_
                refine w_astore_n F dX0_node_68 (by decide) rfl (lv' := [(0, _), (1, _), (2, _), (3, _), (4, _)]) rfl rfl ?_
                refine w_iinc F dX0_node_69 rfl (by decide) rfl (lv' := [(0, _), (1, _), (2, _), (3, _), (4, _)]) rfl ?_
                refine w_goto F (tgt := 43) dX0_node_72 (by decide) ?_
                exact ih _ a xa _ na (by omega) (by omega) f7 ht
              · rw [b2i_n0] at h4
                rw [if_pos h4] at ht
                refine w_aload_n F dX0_node_57 rfl rfl ?_
                refine w_getF F (fN2 _ (by omega) (by omega)) (by omega) rfl in_X2 (by decide) (Or.inr q120) dX0_node_58 ?_
                refine w_toN (i := 1) f3 ?_
                refine w_goto F (tgt := 68) dX0_node_61 (by decide) ?_
                refine w_astore_n F dX0_node_68 (by decide) rfl (lv' := [(0, _), (1, _), (2, _), (3, _), (4, _)]) rfl rfl ?_
                refine w_iinc F dX0_node_69 rfl (by decide) rfl (lv' := [(0, _), (1, _), (2, _), (3, _), (4, _)]) rfl ?_
                refine w_goto F (tgt := 43) dX0_node_72 (by decide) ?_
                exact ih _ b xb _ nb (by omega) (by omega) f8 ht
      refine w_aload_n F dX0_node_26 rfl rfl ?_
      refine w_get F (by omega) rfl rfl in_X0 2 (by decide) (Or.inl q542) rfl dX0_node_27 ?_
      refine w_getF F (fS2 _ (by omega)) (by omega) rfl in_X1 (by decide) (Or.inr q152) dX0_node_30 ?_
      refine w_toN (i := 1) hroot ?_
      refine w_astore_n F dX0_node_33 (by decide) rfl (lv' := [(0, _), (1, _), (2, _), (3, _)]) rfl rfl ?_
      refine w_bipush F dX0_node_34 rfl ?_
      refine w_iload_n F dX0_node_36 rfl ?_
      refine w_callS F (As := [_]) (ct_nlz hE γ (p := pn) (by omega) (by omega)) (lw_S q643 q644 q85 q645) md_J7_numberOfLeadingZeros rfl rfl (Nat.le_of_ble_eq_true rfl) dX0_node_37 ⟨by omega, by omega⟩ ⟨by omega, by omega⟩ ?_
      rintro _ _ ⟨rfl, rfl⟩
      refine w_isub F dX0_node_40 ?_
      refine w_top (z' := (Nat.log2 pn : Int) - 1) (by omega) ?_
      refine w_istore F dX0_node_41 (by decide) rfl (lv' := [(0, _), (1, _), (2, _), (3, _), (4, _)]) rfl ?_
      exact loop (Nat.log2 pn) _ v.2.2 x (fun _ => true) ns rfl (by omega) hr0 htg.symm
    · rw [b2i_0] at h2
      exact bad (fun q => h2 q.2)
end D16
