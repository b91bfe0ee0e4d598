/-! the model: node, count -/
section M20
variable {l : Launch} {E : EE}
theorem ct_nodeM (hE : EOk E) (hm : 438 ≤ E.nk) (γ : GG) {v : VV} (hM : MV (γ 0) v.1 v.2.1 v.2.2) (hV : VOk v) {p w : Int} (hp : InR p) (hw : InR w) : Ct l yX8_node cX8_node 4 (some .int) E 700 40000 [.ref (E.ad 414), .int (iI p), .int (iI w)] γ (fun r g => Off0 [12, 13, 16, 17, 18] γ g ∧ ((¬ ((1 ≤ p ∧ p ≤ 4095) ∧ 0 ≤ w ∧ w ≤ 3) ∧ r = some (.int (iI (-1)))) ∨ ((1 ≤ p ∧ p ≤ 4095) ∧ (0 ≤ w ∧ w ≤ 3) ∧ r = some (.int (iI (qNode v p.toNat w)))))) 0 0 := by
  refine Ct.of hE (by decide) (Nat.le_of_ble_eq_true rfl) (fun Φ hLn hΦ F hfr hlo => ?_)
  subst hLn; subst hΦ
  have h414 := F.ok.1.2.2
  have hrc := F.rc
  have hrs := F.rs
  show Wg Φ 4 _ 0 0 0 [(0, _), (1, _), (2, _)] []
  refine w_rng (fun hR => ?_)
  obtain ⟨r, ns, g1, g2, g3, g4, g5, g6⟩ := hM.get hV
  refine w_iload_n F dX8_node_0 rfl ?_
  refine w_iconst F dX8_node_1 ?_
  refine w_sipush F dX8_node_2 rfl ?_
  refine w_callS F (As := [_, _, _]) (ct_in hE γ hp (by decide) (by decide)) (lw_S q980 q981 q88 q982) md_X8_in rfl rfl (Nat.le_of_ble_eq_true rfl) dX8_node_5 ⟨by omega, by omega⟩ ⟨by omega, by omega⟩ ?_
  rintro _ _ ⟨rfl, rfl⟩
  refine w_if_eq F (tgt := 20) dX8_node_8 (by decide) (b2i_R _) (fun h => ?_) (fun h => ?_)
  · rw [b2i_0] at h
    refine w_iconst F dX8_node_20 ?_
    exact w_iret F (by omega) (by omega) (⟨Off0.rf, Or.inl ⟨fun q => h q.1, rfl⟩⟩) dX8_node_21
  · rw [b2i_n0] at h
    obtain ⟨p, rfl⟩ : ∃ i : Nat, p = (i : Int) := ⟨p.toNat, by omega⟩
    refine w_iload_n F dX8_node_11 rfl ?_
    refine w_iconst F dX8_node_12 ?_
    refine w_iconst F dX8_node_13 ?_
    refine w_callS F (As := [_, _, _]) (ct_in hE γ hw inR0 (by decide)) (lw_S q980 q981 q88 q982) md_X8_in rfl rfl (Nat.le_of_ble_eq_true rfl) dX8_node_14 ⟨by omega, by omega⟩ ⟨by omega, by omega⟩ ?_
    rintro _ _ ⟨rfl, rfl⟩
    refine w_if_ne F (tgt := 22) dX8_node_17 (by decide) (b2i_R _) (fun h2 => ?_) (fun h2 => ?_)
    · rw [b2i_n0] at h2
      refine w_aload_n F dX8_node_22 rfl rfl ?_
      refine w_iload_n F dX8_node_23 rfl ?_
      refine w_callV F (As := [_]) (ct_nodeBy hE hm γ (rkT (γ 0)) g1 g2 (p := p) (by omega) (by omega)) (lw_V q1019 q1021 qs54 q88 q1022) md_X8_nodeBy (by omega) cell_mdO rfl rfl rfl rfl (Nat.le_of_ble_eq_true rfl) dX8_node_24 ⟨by omega, by omega⟩ ⟨by omega, by omega⟩ ?_
      rintro vv _ ⟨rfl, hn⟩
      rw [nav_cg _ _ _ g5] at hn
      have hans : ∀ (z : Int) (g : GG), Off0 [12, 13, 16, 17, 18] γ g → z = qNode v p w → Off0 [12, 13, 16, 17, 18] γ g ∧ ((¬ ((1 ≤ (p : Int) ∧ (p : Int) ≤ 4095) ∧ 0 ≤ w ∧ w ≤ 3) ∧ some (Value.int (iI z)) = some (.int (iI (-1)))) ∨ ((1 ≤ (p : Int) ∧ (p : Int) ≤ 4095) ∧ (0 ≤ w ∧ w ≤ 3) ∧ some (Value.int (iI z)) = some (.int (iI (qNode v (p : Int).toNat w))))) := fun z g o e => ⟨o, Or.inr ⟨h, h2, by rw [e]; simp⟩⟩
      rcases hn with ⟨hn, rfl⟩ | ⟨q, i, y, nu, hn, w1, w2, w3, rfl⟩
      · skip
        refine w_istore_n F dX8_node_27 (by decide) rfl (lv' := [(0, _), (1, _), (2, _), (3, _)]) rfl ?_
        refine w_iload_n F dX8_node_28 rfl ?_
        refine w_bipush F dX8_node_29 rfl ?_
        refine w_icmp_ne F (tgt := 37) dX8_node_31 (by decide) (by first | assumption | exact inR0 | exact (hR _ _ _).1 | (constructor <;> omega)) (by first | assumption | exact inR0 | exact (hR _ _ _).1 | (constructor <;> omega)) (fun h3 => ?_) (fun h3 => ?_)
        · exact absurd rfl h3
        · refine w_bipush F dX8_node_34 rfl ?_
          exact w_iret F (by omega) (by omega) (hans _ _ Off0.rf (by unfold qNode; rw [hn])) dX8_node_36
      · have hy := w2.lt
        refine w_istore_n F dX8_node_27 (by decide) rfl (lv' := [(0, _), (1, _), (2, _), (3, _)]) rfl ?_
        refine w_iload_n F dX8_node_28 rfl ?_
        refine w_bipush F dX8_node_29 rfl ?_
        refine w_icmp_ne F (tgt := 37) dX8_node_31 (by decide) (by first | assumption | exact inR0 | exact (hR _ _ _).1 | (constructor <;> omega)) (by first | assumption | exact inR0 | exact (hR _ _ _).1 | (constructor <;> omega)) (fun h3 => ?_) (fun h3 => ?_)
        · refine w_aload_n F dX8_node_37 rfl rfl ?_
          refine w_callV F (As := []) (ct_setHolds hE hm γ g1 g2 g3.1 hV.2.1.2 g4) (lw_V q995 q997 qs49 q88 q998) md_X8_setHolds (by omega) cell_mdO rfl rfl rfl rfl (Nat.le_of_ble_eq_true rfl) dX8_node_38 ⟨by omega, by omega⟩ ⟨by omega, by omega⟩ ?_
          rintro _ g ⟨rfl, h17, h16, o1⟩
          have hsub := nav_sub _ _ _ hn
          have hs := w2.sp (T := v.2.1) (fun j hj => hM.2.2 j ((hV.2.1.1 j).mp (hsub j hj)) 2 (by omega) (by omega))
          have hb : bst (rkT (γ 0)) q.2 (tl q.1) = bst (rkT v.2.1) q.2 (tl q.1) := bst_cg (fun j hj => g5 j (hsub j hj)) (fun _ _ => rfl)
          have h16y : g 0 16 y = bst (rkT v.2.1) q.2 (tl q.1) := by
            rw [← h16] at w3
            simp [w1] at w3
            rw [w3, hb]
          have hql : (tl q.1).length ≤ 12 := by
            have := w2.len
            have a2 := nn_tl q.1
            have a3 := nd_len 12 (tl q.1)
            exact Nat.le_trans (by
              have : ∀ (k : Nat) (t : TT) (S : Nat → Bool) (q : TT × (Nat → Bool)), nav (rkT v.2.1) p k t S = some q → (tl q.1).length ≤ (tl t).length := by
                intro k
                induction k with
                | zero => intro t S q h; simp [nav] at h; rw [← h]; exact Nat.le_refl _
                | succ k ih =>
                  intro t S q h
                  cases t with
                  | leaf j => simp [nav] at h
                  | branch s a b =>
                    simp only [nav] at h
                    have := ih _ _ _ h
                    simp only [tl, List.length_append]
                    split at this <;> omega
              exact this _ _ _ _ hn) g6
          refine w_rng (fun hR => ?_)
          refine w_pop F dX8_node_41 rfl ?_
          refine w_iload_n F dX8_node_42 rfl ?_
          refine w_if_ne F (tgt := 55) dX8_node_43 (by decide) (by first | assumption | exact inR0 | exact (hR _ _ _).1 | (constructor <;> omega)) (fun h4 => ?_) (fun h4 => ?_)
          · refine w_iload_n F dX8_node_55 rfl ?_
            refine w_iconst F dX8_node_56 ?_
            refine w_icmp_ne F (tgt := 69) dX8_node_57 (by decide) (by first | assumption | exact inR0 | exact (hR _ _ _).1 | (constructor <;> omega)) (by first | assumption | exact inR0 | exact (hR _ _ _).1 | (constructor <;> omega)) (fun h5 => ?_) (fun h5 => ?_)
            · refine w_iload_n F dX8_node_69 rfl ?_
              refine w_iconst F dX8_node_70 ?_
              refine w_icmp_ne F (tgt := 83) dX8_node_71 (by decide) (by first | assumption | exact inR0 | exact (hR _ _ _).1 | (constructor <;> omega)) (by first | assumption | exact inR0 | exact (hR _ _ _).1 | (constructor <;> omega)) (fun h6 => ?_) (fun h6 => ?_)
              · refine w_aload_n F dX8_node_83 rfl rfl ?_
                refine w_iload_n F dX8_node_84 rfl ?_
                refine w_callV F (As := [_]) (ct_leaves hE hm g (w2.off o1 rfl) hql) (lw_V q860 q862 qs42 q88 q863) md_X8_leaves (by omega) cell_mdO rfl rfl rfl rfl (Nat.le_of_ble_eq_true rfl) dX8_node_85 ⟨by omega, by omega⟩ ⟨by omega, by omega⟩ ?_
                rintro _ g7 ⟨rfl, _, o7⟩
                exact w_iret F (by omega) (by omega) (hans _ _ (o1.tr (o7.mono (by decide))) (by unfold qNode; rw [hn]; dsimp only; rw [if_neg (by omega), if_neg (by omega), if_neg (by omega)])) dX8_node_88
              · refine w_aload_n F dX8_node_74 rfl rfl ?_
                refine w_get F (by omega) cell_mdO rfl in_X8 10 (by decide) (Or.inl q882) rfl dX8_node_75 ?_
                refine w_iload_n F dX8_node_78 rfl ?_
                first | refine w_ialdN F (aM10 _) (by omega) (by decide) (by omega) dX8_node_79 ?_ | refine w_iald F (aM10 _) (by omega) (by decide) (by omega) (by omega) dX8_node_79 ?_
                refine w_goto F (tgt := 88) dX8_node_80 (by decide) ?_
                exact w_iret F (by omega) (by omega) (hans _ _ o1 (by unfold qNode; rw [hn]; dsimp only; rw [if_neg (by omega), if_neg (by omega), if_pos (by omega), o1.f 10 rfl]; exact hs.2)) dX8_node_88
            · refine w_aload_n F dX8_node_60 rfl rfl ?_
              refine w_get F (by omega) cell_mdO rfl in_X8 9 (by decide) (Or.inl q881) rfl dX8_node_61 ?_
              refine w_iload_n F dX8_node_64 rfl ?_
              first | refine w_ialdN F (aM9 _) (by omega) (by decide) (by omega) dX8_node_65 ?_ | refine w_iald F (aM9 _) (by omega) (by decide) (by omega) (by omega) dX8_node_65 ?_
              refine w_goto F (tgt := 88) dX8_node_66 (by decide) ?_
              exact w_iret F (by omega) (by omega) (hans _ _ o1 (by unfold qNode; rw [hn]; dsimp only; rw [if_neg (by omega), if_pos (by omega), o1.f 9 rfl]; exact hs.1)) dX8_node_88
          · refine w_aload_n F dX8_node_46 rfl rfl ?_
            refine w_get F (by omega) cell_mdO rfl in_X8 16 (by decide) (Or.inl q888) rfl dX8_node_47 ?_
            refine w_iload_n F dX8_node_50 rfl ?_
            first | refine w_ialdN F (aM16 _) (by omega) (by decide) (by omega) dX8_node_51 ?_ | refine w_iald F (aM16 _) (by omega) (by decide) (by omega) (by omega) dX8_node_51 ?_
            refine w_goto F (tgt := 88) dX8_node_52 (by decide) ?_
            exact w_iret F (by omega) (by omega) (hans _ _ o1 (by unfold qNode; rw [hn]; dsimp only; rw [if_pos (by omega)]; exact h16y)) dX8_node_88
        · omega
    · rw [b2i_0] at h2
      refine w_iconst F dX8_node_20 ?_
      exact w_iret F (by omega) (by omega) (⟨Off0.rf, Or.inl ⟨fun q => h2 q.2, rfl⟩⟩) dX8_node_21
/-- what count answers; sz: how many letters -/
def qCount (v : VV) (nu nk : Nat) (sz : Int) (w : Int) : Int := if w = 0 then (cnt v.1 12 : Int) else if w = 1 then (v.1 : Int) else if w = 2 then 2 * (cnt v.1 12 : Int) - 1 else if w = 3 then (dmax v.2.2 : Int) else if w = 4 then (nNone (hl (rkT v.2.1) v.2.2 (fun _ => true)) : Int) else if w = 5 then (nu : Int) else if w = 6 then (nk : Int) else if w = 7 then sz else -1
theorem ct_countM (hE : EOk E) (hm : 438 ≤ E.nk) (γ : GG) {Lb : Int} {v : VV} {vu vk : List VV} (hF : MF (γ 0) Lb v vu vk) (hV : VOk v) {w : Int} (hw : InR w) : Ct l yX8_count cX8_count 2 (some .int) E 700 40000 [.ref (E.ad 414), .int (iI w)] γ (fun r g => Off0 [12, 13, 16, 17, 18] γ g ∧ r = some (.int (iI (qCount v vu.length vk.length (γ 0 28 0) w)))) 0 0 := by
  refine Ct.of hE (by decide) (Nat.le_of_ble_eq_true rfl) (fun Φ hLn hΦ F hfr hlo => ?_)
  subst hLn; subst hΦ
  have h414 := F.ok.1.2.2
  have hrc := F.rc
  have hrs := F.rs
  show Wg Φ 2 _ 0 0 0 [(0, _), (1, _)] []
  refine w_rng (fun hR => ?_)
  obtain ⟨r, ns, g1, g2, g3, g4, g5, g6⟩ := hF.1.get hV
  have hb : γ 0 0 0 = (v.1 : Int) := hF.1.1
  have hb2 := hV.1.1
  have hc := cnt_le v.1 12
  refine w_iload_n F dX8_count_0 rfl ?_
  refine w_iconst F dX8_count_1 ?_
  refine w_bipush F dX8_count_2 rfl ?_
  refine w_callS F (As := [_, _, _]) (ct_in hE γ hw inR0 (by decide)) (lw_S q980 q981 q88 q982) md_X8_in rfl rfl (Nat.le_of_ble_eq_true rfl) dX8_count_4 ⟨by omega, by omega⟩ ⟨by omega, by omega⟩ ?_
  rintro _ _ ⟨rfl, rfl⟩
  refine w_if_ne F (tgt := 12) dX8_count_7 (by decide) (b2i_R _) (fun h => ?_) (fun h => ?_)
  · rw [b2i_n0] at h
    refine w_iload_n F dX8_count_12 rfl ?_
    rcases (show w = 0 ∨ w = 1 ∨ w = 2 ∨ w = 3 ∨ w = 4 ∨ w = 5 ∨ w = 6 ∨ w = 7 by omega) with rfl | rfl | rfl | rfl | rfl | rfl | rfl | rfl
    · skip
      refine w_tabIn F (z := 0) (tgt := 56) dX8_count_13 (by first | assumption | exact inR0 | exact (hR _ _ _).1 | (constructor <;> omega)) (by decide) (by decide) rfl (by decide) ?_
      refine w_aload_n F dX8_count_56 rfl rfl ?_
      refine w_callV F (As := []) (ct_many hE hm γ hb hb2) (lw_V q1030 q1032 qs55 q88 q1033) md_X8_many (by omega) cell_mdO rfl rfl rfl rfl (Nat.le_of_ble_eq_true rfl) dX8_count_57 ⟨by omega, by omega⟩ ⟨by omega, by omega⟩ ?_
      rintro _ _ ⟨rfl, rfl⟩
      exact w_iret F (by omega) (by omega) (⟨Off0.rf, rfl⟩) dX8_count_60
    · skip
      refine w_tabIn F (z := 1) (tgt := 61) dX8_count_13 (by first | assumption | exact inR0 | exact (hR _ _ _).1 | (constructor <;> omega)) (by decide) (by decide) rfl (by decide) ?_
      refine w_aload_n F dX8_count_61 rfl rfl ?_
      refine w_getF F (fM0 _) (by omega) rfl in_X8 (by decide) (Or.inl q872) dX8_count_62 ?_
      exact w_iret F (by omega) (by omega) (⟨Off0.rf, by rw [hb]; rfl⟩) dX8_count_65
    · skip
      refine w_tabIn F (z := 2) (tgt := 66) dX8_count_13 (by first | assumption | exact inR0 | exact (hR _ _ _).1 | (constructor <;> omega)) (by decide) (by decide) rfl (by decide) ?_
      refine w_iconst F dX8_count_66 ?_
      refine w_aload_n F dX8_count_67 rfl rfl ?_
      refine w_callV F (As := []) (ct_many hE hm γ hb hb2) (lw_V q1030 q1032 qs55 q88 q1033) md_X8_many (by omega) cell_mdO rfl rfl rfl rfl (Nat.le_of_ble_eq_true rfl) dX8_count_68 ⟨by omega, by omega⟩ ⟨by omega, by omega⟩ ?_
      rintro _ _ ⟨rfl, rfl⟩
      refine w_imul F dX8_count_71 ?_
      refine w_iconst F dX8_count_72 ?_
      refine w_isub F dX8_count_73 ?_
      exact w_iret F (by omega) (by omega) (⟨Off0.rf, rfl⟩) dX8_count_74
    · skip
      refine w_tabIn F (z := 3) (tgt := 75) dX8_count_13 (by first | assumption | exact inR0 | exact (hR _ _ _).1 | (constructor <;> omega)) (by decide) (by decide) rfl (by decide) ?_
      refine w_aload_n F dX8_count_75 rfl rfl ?_
      refine w_callV F (As := []) (ct_deepest hE hm γ g2 g3 g6) (lw_V q1058 q1060 qs59 q88 q1061) md_X8_deepest (by omega) cell_mdO rfl rfl rfl rfl (Nat.le_of_ble_eq_true rfl) dX8_count_76 ⟨by omega, by omega⟩ ⟨by omega, by omega⟩ ?_
      rintro _ _ ⟨rfl, rfl⟩
      exact w_iret F (by omega) (by omega) (⟨Off0.rf, rfl⟩) dX8_count_79
    · skip
      refine w_tabIn F (z := 4) (tgt := 80) dX8_count_13 (by first | assumption | exact inR0 | exact (hR _ _ _).1 | (constructor <;> omega)) (by decide) (by decide) rfl (by decide) ?_
      refine w_aload_n F dX8_count_80 rfl rfl ?_
      refine w_callV F (As := []) (ct_holdNone hE hm γ g1 g2 g3.1 hV.2.1.2 g4) (lw_V q1136 q1138 qs64 q88 q1139) md_X8_holdNone (by omega) cell_mdO rfl rfl rfl rfl (Nat.le_of_ble_eq_true rfl) dX8_count_81 ⟨by omega, by omega⟩ ⟨by omega, by omega⟩ ?_
      rintro _ g ⟨rfl, o1⟩
      exact w_iret F (by omega) (by omega) (⟨o1, by rw [hl_cg v.2.2 g5 (S' := fun _ => true) (fun _ _ => rfl)]; rfl⟩) dX8_count_84
    · skip
      refine w_tabIn F (z := 5) (tgt := 85) dX8_count_13 (by first | assumption | exact inR0 | exact (hR _ _ _).1 | (constructor <;> omega)) (by decide) (by decide) rfl (by decide) ?_
      refine w_aload_n F dX8_count_85 rfl rfl ?_
      refine w_getF F (fM20 _) (by omega) rfl in_X8 (by decide) (Or.inl q892) dX8_count_86 ?_
      exact w_iret F (by omega) (by omega) (⟨Off0.rf, by rw [hF.2.2.2.1]; rfl⟩) dX8_count_89
    · skip
      refine w_tabIn F (z := 6) (tgt := 90) dX8_count_13 (by first | assumption | exact inR0 | exact (hR _ _ _).1 | (constructor <;> omega)) (by decide) (by decide) rfl (by decide) ?_
      refine w_aload_n F dX8_count_90 rfl rfl ?_
      refine w_getF F (fM22 _) (by omega) rfl in_X8 (by decide) (Or.inl q894) dX8_count_91 ?_
      exact w_iret F (by omega) (by omega) (⟨Off0.rf, by rw [hF.2.2.2.2.2.2.1]; rfl⟩) dX8_count_94
    · skip
      refine w_tabOut F (tgt := 95) dX8_count_13 (by first | assumption | exact inR0 | exact (hR _ _ _).1 | (constructor <;> omega)) (by omega) (by decide) ?_
      refine w_aload_n F dX8_count_95 rfl rfl ?_
      refine w_getF F (fM28 _) (by omega) rfl in_X8 (by decide) (Or.inl q900) dX8_count_96 ?_
      exact w_iret F (by omega) (by omega) (⟨Off0.rf, rfl⟩) dX8_count_99
  · rw [b2i_0] at h
    refine w_iconst F dX8_count_10 ?_
    exact w_iret F (by omega) (by omega) (⟨Off0.rf, by unfold qCount; rw [if_neg (by omega), if_neg (by omega), if_neg (by omega), if_neg (by omega), if_neg (by omega), if_neg (by omega), if_neg (by omega), if_neg (by omega)]⟩) dX8_count_11
end M20
