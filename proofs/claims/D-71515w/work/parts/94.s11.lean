/-! State: levelAbove -/
/-- from y on, by the key K, yl is the node beside the leaf that is cut; Kl: its own key -/
def LastAt (σ : Nat → Nat → Int) (K Kl : Nat) : TT → Nat → Nat → Prop
  | .leaf _, _, _ => False
  | .branch s a b, y, yl => if K ≤ s then (if isL a = true then y = yl else y ≠ yl ∧ Kl ≤ s ∧ ∃ xa : Nat, σ 21 y = (xa : Int) ∧ LastAt σ K Kl a xa yl) else (if isL b = true then y = yl else y ≠ yl ∧ s < Kl ∧ ∃ xb : Nat, σ 22 y = (xb : Int) ∧ LastAt σ K Kl b xb yl)
section S12
variable {l : Launch} {E : EE}
theorem ct_levelAbove (hE : EOk E) (hA : AhOk l E) (γ : GG) {k : Nat} (hk : k < 13) {T : Nat → Nat → Int} {t0 : TT} {K Kl x yl : Nat} {ns : List Nat} {S : Nat → Bool} (hroot : γ (2 + k) 2 0 = (x : Int)) (hrc0 : RC T (γ (2 + k)) (delT K t0) x S ns) (hnd : ns.Nodup) (hU : UsC (γ (2 + k)) ns) (hO : OrdT (keyT T) (delT K t0)) (hN : (tl (delT K t0)).Nodup) (hJ : ∀ i ∈ tl (delT K t0), JC T (γ (2 + k)) i) (hyl : yl < 23) (hK : (Kl : Int) = 16 * γ (2 + k) 23 yl + γ (2 + k) 24 yl ∧ (0 ≤ γ (2 + k) 24 yl ∧ γ (2 + k) 24 yl < 12) ∧ 0 ≤ γ (2 + k) 23 yl ∧ γ (2 + k) 23 yl ≤ 99) (hLa : LastAt (γ (2 + k)) K Kl t0 x yl) : Ct l yX1_levelAbove cX1_levelAbove 6 (some .int) E 800 44000 [.ref (E.ad (11 + 31 * k)), .ref (E.ad (19 + 31 * k + yl))] γ (fun r g => r = some (.int (iI ((cutT (keyT T) K t0).2 : Int))) ∧ SR T (g (2 + k)) (cutT (keyT T) K t0).1 S ∧ OffS k offW γ g) 0 0 := by
  refine Ct.of hE (by decide) (Nat.le_of_ble_eq_true rfl) (fun Φ hLn hΦ F hfr hlo => ?_)
  subst hLn; subst hΦ
  have h414 := F.ok.1.2.2
  have hrc := F.rc
  have hrs := F.rs
  show Wg Φ 6 _ 0 0 0 [(0, _), (1, _)] []
  refine w_rng (fun hR => ?_)
  have hh12 := nd_len 12 (tl (delT K t0)) hN (fun z hz => (hJ z hz).1)
  obtain ⟨tg, htg⟩ : ∃ q, q = cutT (keyT T) K t0 := ⟨_, rfl⟩
  rw [← htg] at F
  obtain ⟨s1, hs1⟩ : ∃ q, q = γ (2 + k) 23 yl := ⟨_, rfl⟩
  obtain ⟨m1, hm1⟩ : ∃ q, q = γ (2 + k) 24 yl := ⟨_, rfl⟩
  rw [← hs1, ← hm1] at hK
  have hglk : ∀ (y s : Nat), ((s : Int) = 16 * γ (2 + k) 23 y + γ (2 + k) 24 y ∧ (0 ≤ γ (2 + k) 24 y ∧ γ (2 + k) 24 y < 12) ∧ 0 ≤ γ (2 + k) 23 y ∧ γ (2 + k) 23 y ≤ 99) → (gl γ k y s1 m1 ↔ Kl ≤ s) := fun y s h4 => by unfold gl; omega
  have lev : ∀ (u : TT) (y : Nat) (S' : Nat → Bool) (nu : List Nat) (C : TT → TT) (pre post' : List Nat) (pa : Option (Nat × Bool)), Foc T (γ (2 + k)) 0 x S C pre post' pa u y S' nu → ns = pre ++ nu ++ post' → OrdT (keyT T) u → (tl u).Nodup → (∀ i ∈ tl u, i ∈ tl (delT K t0)) → tg = (C (bld (keyT T) (tl u)), 1) → Wg Φ 6 γ 0 0 33 [(0, .ref (Φ.E.ad (11 + 31 * k))), (1, .ref (Φ.E.ad (19 + 31 * k + yl))), (2, .int (iI s1)), (3, .int (iI m1)), (4, va_rf (onode Φ.E.ad k (pz pa))), (5, .ref (Φ.E.ad (19 + 31 * k + y)))] [] := by
    intro u y S' nu C pre post' pa a1 a2 a5 a6 a7 e4
    have hy := a1.1.lt
    have sub : ∀ z ∈ nu, z ∈ ns := fun z hz => by rw [a2]; exact List.mem_append_left _ (List.mem_append_right _ hz)
    have hnu : nu.Nodup := nd_in a1.2.1
    rcases pa with _ | ⟨p, d⟩
    · skip
      refine w_aload_n F dX1_levelAbove_33 rfl rfl ?_
      refine w_aload F dX1_levelAbove_34 rfl (by first | rfl | exact rf_isRef _) ?_
      refine w_toNull (by show (-1 : Int) < 0; decide) ?_
      refine w_aload F dX1_levelAbove_36 rfl rfl ?_
      refine w_aload_n F dX1_levelAbove_38 rfl rfl ?_
      refine w_aload F dX1_levelAbove_39 rfl rfl ?_
      refine w_callV F (As := [_]) (ct_levelled hE hA γ hk a1.1 hnu a5 a6 (fun i hi => hJ i (a7 i hi)) hU sub) (lw_V q508 q510 qs12 q71 q511) md_X1_levelled (by omega) (cell_stO (by omega)) rfl rfl rfl rfl (Nat.le_of_ble_eq_true rfl) dX1_levelAbove_41 ⟨by omega, by omega⟩ ⟨by omega, by omega⟩ ?_
      rintro _ g1 ⟨y', ns', rfl, r1, d1, i1, u1, off1⟩
      have hy' := r1.lt
      have hL := SR.lev a1 a2 hroot r1 d1 i1 u1 off1
      refine w_callV F (As := [_, _, _]) (ct_replace0 hE g1 hk hy hy') (lw_V q524 q526 qs16 q71 q527) md_X1_replace (by omega) (cell_stO (by omega)) rfl rfl rfl rfl (Nat.le_of_ble_eq_true rfl) dX1_levelAbove_44 ⟨by omega, by omega⟩ ⟨by omega, by omega⟩ ?_
      rintro _ _ ⟨rfl, rfl⟩
      refine w_iconst F dX1_levelAbove_47 ?_
      exact w_iret F (by omega) (by omega) (⟨by rw [e4]; rfl, by rw [e4]; exact hL.1, hL.2⟩) dX1_levelAbove_48
    · have hpp : p ∈ pre := a1.2.2.2.2.2.2 p d rfl
      have hp23 : p < 23 := hU.lt p (by rw [a2]; exact List.mem_append_left _ (List.mem_append_left _ hpp))
      refine w_aload_n F dX1_levelAbove_33 rfl rfl ?_
      refine w_aload F dX1_levelAbove_34 rfl (by first | rfl | exact rf_isRef _) ?_
      refine w_toN (j := p) rfl ?_
      refine w_aload F dX1_levelAbove_36 rfl rfl ?_
      refine w_aload_n F dX1_levelAbove_38 rfl rfl ?_
      refine w_aload F dX1_levelAbove_39 rfl rfl ?_
      refine w_callV F (As := [_]) (ct_levelled hE hA γ hk a1.1 hnu a5 a6 (fun i hi => hJ i (a7 i hi)) hU sub) (lw_V q508 q510 qs12 q71 q511) md_X1_levelled (by omega) (cell_stO (by omega)) rfl rfl rfl rfl (Nat.le_of_ble_eq_true rfl) dX1_levelAbove_41 ⟨by omega, by omega⟩ ⟨by omega, by omega⟩ ?_
      rintro _ g1 ⟨y', ns', rfl, r1, d1, i1, u1, off1⟩
      have hy' := r1.lt
      have hL := SR.lev a1 a2 hroot r1 d1 i1 u1 off1
      have hpn : p ∉ ns' := fun q => i1 p q (rmv_mem.mpr ⟨by rw [a2]; exact List.mem_append_left _ (List.mem_append_left _ hpp), fun w => by
        have := a1.2.1
        rw [List.nodup_append] at this
        exact (List.nodup_append.mp this.1).2.2 p hpp p w rfl⟩)
      have e21 : ∀ f, 21 ≤ f → g1 (2 + k) f p = γ (2 + k) f p := fun f hf => off1.s (fun q => by
        rcases q with q | q | q | q | q | q
        · omega
        · omega
        · omega
        · omega
        · omega
        · exact hpn q.2.2)
      have hpa1 : PaOk (g1 (2 + k)) (some (p, d)) y := by
        have h0 := a1.2.2.1
        cases d with
        | true => show g1 (2 + k) 21 p = _; rw [e21 21 (by omega)]; exact h0
        | false => show g1 (2 + k) 22 p = _ ∧ ∃ z : Nat, z < 23 ∧ g1 (2 + k) 21 p = _ ∧ z ≠ _; rw [e21 22 (by omega), e21 21 (by omega)]; exact h0
      refine w_callV F (As := [_, _, _]) (ct_replaceP hE g1 hk hy hy' hp23 hpa1) (lw_V q524 q526 qs16 q71 q527) md_X1_replace (by omega) (cell_stO (by omega)) rfl rfl rfl rfl (Nat.le_of_ble_eq_true rfl) dX1_levelAbove_44 ⟨by omega, by omega⟩ ⟨by omega, by omega⟩ ?_
      rintro _ _ ⟨rfl, rfl⟩
      refine w_iconst F dX1_levelAbove_47 ?_
      exact w_iret F (by omega) (by omega) (⟨by rw [e4]; rfl, by rw [e4]; exact hL.1, hL.2⟩) dX1_levelAbove_48
  have loop : ∀ (u0 : TT) (y : Nat) (S' : Nat → Bool) (nu : List Nat) (C : TT → TT) (pre post' : List Nat) (pa : Option (Nat × Bool)), Foc T (γ (2 + k)) 0 x S C pre post' pa (delT K u0) y S' nu → ns = pre ++ nu ++ post' → C (delT K u0) = delT K t0 → tg = (C (cutT (keyT T) K u0).1, (cutT (keyT T) K u0).2) → OrdT (keyT T) (delT K u0) → (tl (delT K u0)).Nodup → (∀ i ∈ tl (delT K u0), i ∈ tl (delT K t0)) → LastAt (γ (2 + k)) K Kl u0 y yl → Wg Φ 6 γ 0 0 19 [(0, .ref (Φ.E.ad (11 + 31 * k))), (1, .ref (Φ.E.ad (19 + 31 * k + yl))), (2, .int (iI s1)), (3, .int (iI m1)), (4, va_rf (onode Φ.E.ad k (pz pa))), (5, .ref (Φ.E.ad (19 + 31 * k + y)))] [] := by
    intro u0
    induction u0 with
    | leaf q =>
      intro y S' nu C pre post' pa a1 a2 a3 a4 a5 a6 a7 a8
      exact absurd a8 (fun h => h)
    | branch s a b iha ihb =>
      intro y S' nu C pre post' pa a1 a2 a3 a4 a5 a6 a7 a8
      have hy := a1.1.lt
      have stop : y = yl → tg = (delT K t0, 0) → Wg Φ 6 γ 0 0 19 [(0, .ref (Φ.E.ad (11 + 31 * k))), (1, .ref (Φ.E.ad (19 + 31 * k + yl))), (2, .int (iI s1)), (3, .int (iI m1)), (4, va_rf (onode Φ.E.ad k (pz pa))), (5, .ref (Φ.E.ad (19 + 31 * k + y)))] [] := by
        intro hyy e4
        refine w_aload F dX1_levelAbove_19 rfl rfl ?_
        refine w_frN ?_
        refine w_aload_n F dX1_levelAbove_21 rfl rfl ?_
        refine w_frN ?_
        refine w_acmp_eq F (tgt := 65) dX1_levelAbove_22 (by decide) (by omega) (by omega) (by omega) (fun h => ?_) (fun h => ?_)
        · refine w_iconst F dX1_levelAbove_65 ?_
          exact w_iret F (by omega) (by omega) (⟨by rw [e4]; rfl, by rw [e4]; exact ⟨x, ns, hroot, hrc0, hnd, hU⟩, OffS.rf⟩) dX1_levelAbove_66
        · omega
      unfold LastAt at a8
      by_cases hc : K ≤ s
      · rw [if_pos hc] at a8
        by_cases hl : isL a = true
        · rw [if_pos hl] at a8
          have ed : delT K (.branch s a b) = b := by simp only [delT]; rw [if_pos hc, if_pos hl]
          have ec : cutT (keyT T) K (.branch s a b) = (b, 0) := by simp only [cutT]; rw [if_pos hc, if_pos hl]
          refine stop a8 ?_
          rw [a4, ec, ← a3, ed]
        rw [if_neg hl] at a8
        obtain ⟨hyne, hkl, xq, hxq, hla⟩ := a8
        have ed : delT K (.branch s a b) = .branch s (delT K a) b := by simp only [delT]; rw [if_pos hc, if_neg hl]
        have ec : cutT (keyT T) K (.branch s a b) = if leansB (.branch s (delT K a) b) = true then (bld (keyT T) (tl (delT K a) ++ tl b), 1) else (.branch s (cutT (keyT T) K a).1 b, (cutT (keyT T) K a).2) := by simp only [cutT]; rw [if_pos hc, if_neg hl]
        rw [ed] at a1 a3 a5 a6 a7
        rw [ec] at a4
        obtain ⟨xa, xb, na, nb, e, h1, h2, h3, h4, h5, h6, h7, h8⟩ := id a1.1
        have hxa := h7.lt
        have hxb := h8.lt
        have exq : xq = xa := by rw [h2] at hxq; omega
        subst exq
        have a6' := List.nodup_append.mp a6
        obtain ⟨o1, o2, _, _, o5, o6⟩ := id a5
        have hL1 := nd_len 12 _ a6'.1 (fun z hz => (hJ z (a7 z (List.mem_append_left _ hz))).1)
        have hL2 := nd_len 12 _ a6'.2.1 (fun z hz => (hJ z (a7 z (List.mem_append_right _ hz))).1)
        refine w_aload F dX1_levelAbove_19 rfl rfl ?_
        refine w_frN ?_
        refine w_aload_n F dX1_levelAbove_21 rfl rfl ?_
        refine w_frN ?_
        refine w_acmp_eq F (tgt := 65) dX1_levelAbove_22 (by decide) (by omega) (by omega) (by omega) (fun h => ?_) (fun h => ?_)
        · omega
        · refine w_aload F dX1_levelAbove_25 rfl rfl ?_
          refine w_callV F (As := []) (ct_leansN hE γ hk hy hxa hxb h2 h3 h7.lvs h8.lvs h5 (by omega) (by omega)) (lw_V q503 q504 q505 q72 q506) md_X2_leans (by omega) (cell_nd (by omega) (by omega)) rfl rfl rfl rfl (Nat.le_of_ble_eq_true rfl) dX1_levelAbove_27 ⟨by omega, by omega⟩ ⟨by omega, by omega⟩ ?_
          rintro _ _ ⟨rfl, rfl⟩
          refine w_if_eq F (tgt := 49) dX1_levelAbove_30 (by decide) (b2i_R _) (fun hle => ?_) (fun hle => ?_)
          · rw [b2i_0, lean_b (s := s)] at hle
            rw [if_neg hle] at a4
            refine w_aload F dX1_levelAbove_49 rfl rfl ?_
            refine w_astore F dX1_levelAbove_51 (by decide) rfl (lv' := [(0, _), (1, _), (2, _), (3, _), (4, _), (5, _)]) rfl rfl ?_
            refine w_aload F dX1_levelAbove_53 rfl rfl ?_
            refine w_iload_n F dX1_levelAbove_55 rfl ?_
            refine w_iload_n F dX1_levelAbove_56 rfl ?_
            refine w_callV F (As := [_, _]) (ct_partN hE γ hk hy (s := s1) (j := m1) (by omega) (by omega)) (lw_V q430 q431 q432 q72 q433) md_X2_part (by omega) (cell_nd (by omega) (by omega)) rfl rfl rfl rfl (Nat.le_of_ble_eq_true rfl) dX1_levelAbove_57 ⟨by omega, by omega⟩ ⟨by omega, by omega⟩ ?_
            rintro _ _ ⟨rfl, rfl⟩
            rw [if_pos ((hglk y s h4).mpr hkl)]
            refine w_toN h2 ?_
            refine w_astore F dX1_levelAbove_60 (by decide) rfl (lv' := [(0, _), (1, _), (2, _), (3, _), (4, _), (5, _)]) rfl rfl ?_
            refine w_goto F (tgt := 19) dX1_levelAbove_62 (by decide) ?_
            have hF := a1.left (σ2 := γ (2 + k)) e h1 h2 h3 h4 h5 h6 h7 h8 (by omega) (fun _ _ _ => rfl)
            have := iha xq _ _ _ _ _ (some (y, true)) hF (by rw [a2, e]; simp) a3 a4 o5 a6'.1 (fun i hi => a7 i (List.mem_append_left _ hi)) hla
            rw [show onode Φ.E.ad k (pz (some (y, true))) = some (Φ.E.ad (19 + 31 * k + y)) from onode_s rfl] at this
            exact this
          · rw [b2i_n0, lean_b (s := s)] at hle
            rw [if_pos hle] at a4
            exact lev _ y S' nu C pre post' pa a1 a2 a5 a6 a7 a4
      · rw [if_neg hc] at a8
        by_cases hl : isL b = true
        · rw [if_pos hl] at a8
          have ed : delT K (.branch s a b) = a := by simp only [delT]; rw [if_neg hc, if_pos hl]
          have ec : cutT (keyT T) K (.branch s a b) = (a, 0) := by simp only [cutT]; rw [if_neg hc, if_pos hl]
          refine stop a8 ?_
          rw [a4, ec, ← a3, ed]
        rw [if_neg hl] at a8
        obtain ⟨hyne, hkl, xq, hxq, hla⟩ := a8
        have ed : delT K (.branch s a b) = .branch s a (delT K b) := by simp only [delT]; rw [if_neg hc, if_neg hl]
        have ec : cutT (keyT T) K (.branch s a b) = if leansB (.branch s a (delT K b)) = true then (bld (keyT T) (tl a ++ tl (delT K b)), 1) else (.branch s a (cutT (keyT T) K b).1, (cutT (keyT T) K b).2) := by simp only [cutT]; rw [if_neg hc, if_neg hl]
        rw [ed] at a1 a3 a5 a6 a7
        rw [ec] at a4
        obtain ⟨xa, xb, na, nb, e, h1, h2, h3, h4, h5, h6, h7, h8⟩ := id a1.1
        have hxa := h7.lt
        have hxb := h8.lt
        have exq : xq = xb := by rw [h3] at hxq; omega
        subst exq
        have a6' := List.nodup_append.mp a6
        obtain ⟨o1, o2, _, _, o5, o6⟩ := id a5
        have hL1 := nd_len 12 _ a6'.1 (fun z hz => (hJ z (a7 z (List.mem_append_left _ hz))).1)
        have hL2 := nd_len 12 _ a6'.2.1 (fun z hz => (hJ z (a7 z (List.mem_append_right _ hz))).1)
        refine w_aload F dX1_levelAbove_19 rfl rfl ?_
        refine w_frN ?_
        refine w_aload_n F dX1_levelAbove_21 rfl rfl ?_
        refine w_frN ?_
        refine w_acmp_eq F (tgt := 65) dX1_levelAbove_22 (by decide) (by omega) (by omega) (by omega) (fun h => ?_) (fun h => ?_)
        · omega
        · refine w_aload F dX1_levelAbove_25 rfl rfl ?_
          refine w_callV F (As := []) (ct_leansN hE γ hk hy hxa hxb h2 h3 h7.lvs h8.lvs h5 (by omega) (by omega)) (lw_V q503 q504 q505 q72 q506) md_X2_leans (by omega) (cell_nd (by omega) (by omega)) rfl rfl rfl rfl (Nat.le_of_ble_eq_true rfl) dX1_levelAbove_27 ⟨by omega, by omega⟩ ⟨by omega, by omega⟩ ?_
          rintro _ _ ⟨rfl, rfl⟩
          refine w_if_eq F (tgt := 49) dX1_levelAbove_30 (by decide) (b2i_R _) (fun hle => ?_) (fun hle => ?_)
          · rw [b2i_0, lean_b (s := s)] at hle
            rw [if_neg hle] at a4
            refine w_aload F dX1_levelAbove_49 rfl rfl ?_
            refine w_astore F dX1_levelAbove_51 (by decide) rfl (lv' := [(0, _), (1, _), (2, _), (3, _), (4, _), (5, _)]) rfl rfl ?_
            refine w_aload F dX1_levelAbove_53 rfl rfl ?_
            refine w_iload_n F dX1_levelAbove_55 rfl ?_
            refine w_iload_n F dX1_levelAbove_56 rfl ?_
            refine w_callV F (As := [_, _]) (ct_partN hE γ hk hy (s := s1) (j := m1) (by omega) (by omega)) (lw_V q430 q431 q432 q72 q433) md_X2_part (by omega) (cell_nd (by omega) (by omega)) rfl rfl rfl rfl (Nat.le_of_ble_eq_true rfl) dX1_levelAbove_57 ⟨by omega, by omega⟩ ⟨by omega, by omega⟩ ?_
            rintro _ _ ⟨rfl, rfl⟩
            rw [if_neg (fun q => absurd ((hglk y s h4).mp q) (by omega))]
            refine w_toN h3 ?_
            refine w_astore F dX1_levelAbove_60 (by decide) rfl (lv' := [(0, _), (1, _), (2, _), (3, _), (4, _), (5, _)]) rfl rfl ?_
            refine w_goto F (tgt := 19) dX1_levelAbove_62 (by decide) ?_
            have hF := a1.right (σ2 := γ (2 + k)) e h1 h2 h3 h4 h5 h6 h7 h8 (by omega) (fun _ _ _ => rfl)
            have := ihb xq _ _ _ _ _ (some (y, false)) hF (by rw [a2, e]; simp) a3 a4 o6 a6'.2.1 (fun i hi => a7 i (List.mem_append_right _ hi)) hla
            rw [show onode Φ.E.ad k (pz (some (y, false))) = some (Φ.E.ad (19 + 31 * k + y)) from onode_s rfl] at this
            exact this
          · rw [b2i_n0, lean_b (s := s)] at hle
            rw [if_pos hle] at a4
            exact lev _ y S' nu C pre post' pa a1 a2 a5 a6 a7 a4
  refine w_aload_n F dX1_levelAbove_0 rfl rfl ?_
  refine w_getF F (fN3 _ (by omega) (by omega)) (by omega) rfl in_X2 (by decide) (Or.inr q122) dX1_levelAbove_1 ?_
  refine w_top hs1.symm ?_
  refine w_istore_n F dX1_levelAbove_4 (by decide) rfl (lv' := [(0, _), (1, _), (2, _)]) rfl ?_
  refine w_aload_n F dX1_levelAbove_5 rfl rfl ?_
  refine w_getF F (fN4 _ (by omega) (by omega)) (by omega) rfl in_X2 (by decide) (Or.inr q125) dX1_levelAbove_6 ?_
  refine w_top hm1.symm ?_
  refine w_istore_n F dX1_levelAbove_9 (by decide) rfl (lv' := [(0, _), (1, _), (2, _), (3, _)]) rfl ?_
  refine w_null F dX1_levelAbove_10 ?_
  refine w_nlN (i := k) ?_
  refine w_astore F dX1_levelAbove_11 (by decide) rfl (lv' := [(0, _), (1, _), (2, _), (3, _), (4, _)]) rfl (by first | rfl | exact rf_isRef _) ?_
  refine w_aload_n F dX1_levelAbove_13 rfl rfl ?_
  refine w_getF F (fS2 _ (by omega)) (by omega) rfl in_X1 (by decide) (Or.inl q151) dX1_levelAbove_14 ?_
  refine w_toN hroot ?_
  refine w_astore F dX1_levelAbove_17 (by decide) (by first | rfl | (generalize onode _ _ _ = o; cases o <;> rfl)) (lv' := [(0, _), (1, _), (2, _), (3, _), (4, _), (5, _)]) rfl rfl ?_
  exact loop t0 x S ns (fun u => u) [] [] none (Foc.top hrc0 hnd) (by simp) rfl (by rw [htg]) hO hN (fun i hi => hi) hLa
end S12
