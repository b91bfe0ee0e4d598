/-! the model: isBetween, soonest, first -/
abbrev btw (a b : Int) : Prop := (0 ≤ a ∧ a ≤ 99) ∧ (0 ≤ b ∧ b ≤ 99) ∧ a ≤ b
def sooS (v : VV) (a u : Int) : Nat → Bool := fun j => v.1.testBit j && decide (a ≤ v.2.1 2 j ∧ rkT v.2.1 j ≤ u)
def qSoon (v : VV) (a u : Int) : Int := bst (v.2.1 2) (sooS v a u) (List.range 12)
/-- the n-th best -/
def kth (R : Nat → Int) : Nat → (Nat → Bool) → Int
  | 0, S => bst R S (List.range 12)
  | n + 1, S => kth R n (wo S (bst R S (List.range 12)))
def frS (v : VV) (a b : Int) : Nat → Bool := fun j => v.1.testBit j && decide (a ≤ v.2.1 2 j ∧ v.2.1 2 j ≤ b)
theorem stp_no {R : Nat → Int} {S : Nat → Bool} {b : Int} {x : Nat} (h : S x = false) : stp R S b x = b := by unfold stp; rw [if_neg (by simp [h])]
theorem kth_cg {R : Nat → Int} : ∀ (n : Nat) {S S' : Nat → Bool}, (∀ j, j < 12 → S j = S' j) → kth R n S = kth R n S'
  | 0, S, S', h => bst_cg (fun _ _ => rfl) (fun j hj => h j (by simpa using hj))
  | n + 1, S, S', h => by
    have e : bst R S (List.range 12) = bst R S' (List.range 12) := bst_cg (fun _ _ => rfl) (fun j hj => h j (by simpa using hj))
    simp only [kth]
    rw [e]
    exact kth_cg n (fun j hj => by unfold wo; rw [h j hj])
theorem MV.jr {σ : Nat → Nat → Int} {v : VV} (h : MV σ v.1 v.2.1 v.2.2) (hV : VOk v) {j : Nat} (hj : v.1.testBit j = true) : JR σ j ∧ rkT σ j = rkT v.2.1 j ∧ σ 2 j = v.2.1 2 j ∧ (0 ≤ v.2.1 2 j ∧ v.2.1 2 j ≤ 99) := by
  have h1 := hV.1.2 j hj
  refine ⟨⟨tb12 hV.1.1 hj, ?_, ?_⟩, rkT_cg (h.2.2 j hj), h.2.2 j hj 2 (by omega) (by omega), h1.2.1⟩
  · rw [h.2.2 j hj 3 (by omega) (by omega)]; omega
  · rw [h.2.2 j hj 4 (by omega) (by omega)]; omega
section M23
variable {l : Launch} {E : EE}
theorem ct_isBetween (hE : EOk E) (γ : GG) {a b : Int} (ha : InR a) (hb : InR b) : Ct l yX8_isBetween cX8_isBetween 2 (some .boolean) E 200 20000 [.int (iI a), .int (iI b)] γ (pI (b2i (btw a b)) γ) 0 0 := by
  refine Ct.of hE (by decide) (Nat.le_of_ble_eq_true rfl) (fun Φ hLn hΦ F hfr hlo => ?_)
  subst hLn; subst hΦ
  have h414 := F.ok.1.2.2
  have hrc := F.rc
  have hrs := F.rs
  show Wg Φ 2 _ 0 0 0 [(0, _), (1, _)] []
  refine w_rng (fun hR => ?_)
  refine w_iload_n F dX8_isBetween_0 rfl ?_
  refine w_iconst F dX8_isBetween_1 ?_
  refine w_bipush F dX8_isBetween_2 rfl ?_
  refine w_callS F (As := [_, _, _]) (ct_in hE γ ha inR0 (by decide)) (lw_S q980 q981 q88 q982) md_X8_in rfl rfl (Nat.le_of_ble_eq_true rfl) dX8_isBetween_4 ⟨by omega, by omega⟩ ⟨by omega, by omega⟩ ?_
  rintro _ _ ⟨rfl, rfl⟩
  refine w_if_eq F (tgt := 29) dX8_isBetween_7 (by decide) (b2i_R _) (fun h => ?_) (fun h => ?_)
  · rw [b2i_0] at h
    refine w_iconst F dX8_isBetween_29 ?_
    exact w_zret F (by first | exact Or.inl rfl | exact Or.inr rfl | assumption | omega) (by omega) (by omega) (⟨by rw [b2i_f (fun q => h q.1)], rfl⟩) dX8_isBetween_30
  · rw [b2i_n0] at h
    refine w_iload_n F dX8_isBetween_10 rfl ?_
    refine w_iconst F dX8_isBetween_11 ?_
    refine w_bipush F dX8_isBetween_12 rfl ?_
    refine w_callS F (As := [_, _, _]) (ct_in hE γ hb inR0 (by decide)) (lw_S q980 q981 q88 q982) md_X8_in rfl rfl (Nat.le_of_ble_eq_true rfl) dX8_isBetween_14 ⟨by omega, by omega⟩ ⟨by omega, by omega⟩ ?_
    rintro _ _ ⟨rfl, rfl⟩
    refine w_if_eq F (tgt := 29) dX8_isBetween_17 (by decide) (b2i_R _) (fun h2 => ?_) (fun h2 => ?_)
    · rw [b2i_0] at h2
      refine w_iconst F dX8_isBetween_29 ?_
      exact w_zret F (by first | exact Or.inl rfl | exact Or.inr rfl | assumption | omega) (by omega) (by omega) (⟨by rw [b2i_f (fun q => h2 q.2.1)], rfl⟩) dX8_isBetween_30
    · rw [b2i_n0] at h2
      refine w_iload_n F dX8_isBetween_20 rfl ?_
      refine w_iload_n F dX8_isBetween_21 rfl ?_
      refine w_icmp_gt F (tgt := 29) dX8_isBetween_22 (by decide) (by first | assumption | exact inR0 | exact (hR _ _ _).1 | (constructor <;> omega)) (by first | assumption | exact inR0 | exact (hR _ _ _).1 | (constructor <;> omega)) (fun h3 => ?_) (fun h3 => ?_)
      · refine w_iconst F dX8_isBetween_29 ?_
        exact w_zret F (by first | exact Or.inl rfl | exact Or.inr rfl | assumption | omega) (by omega) (by omega) (⟨by rw [b2i_f (fun q => by have := q.2.2; omega)], rfl⟩) dX8_isBetween_30
      · refine w_iconst F dX8_isBetween_25 ?_
        refine w_goto F (tgt := 30) dX8_isBetween_26 (by decide) ?_
        exact w_zret F (by first | exact Or.inl rfl | exact Or.inr rfl | assumption | omega) (by omega) (by omega) (⟨by rw [b2i_t ⟨h, h2, by omega⟩], rfl⟩) dX8_isBetween_30
theorem ct_soonM (hE : EOk E) (hm : 438 ≤ E.nk) (γ : GG) {v : VV} (hM : MV (γ 0) v.1 v.2.1 v.2.2) (hV : VOk v) {a u : Int} (ha : InR a) (hu : InR u) : Ct l yX8_soonest cX8_soonest 6 (some .int) E 600 36000 [.ref (E.ad 414), .int (iI a), .int (iI u)] γ (fun r g => γ = g ∧ ((¬ ((0 ≤ a ∧ a ≤ 99) ∧ (0 ≤ u ∧ u ≤ 200)) ∧ r = some (.int (iI (-1)))) ∨ (((0 ≤ a ∧ a ≤ 99) ∧ (0 ≤ u ∧ u ≤ 200)) ∧ r = some (.int (iI (qSoon v a u)))))) 0 0 := by
  refine Ct.of hE (by decide) (Nat.le_of_ble_eq_true rfl) (fun Φ hLn hΦ F hfr hlo => ?_)
  subst hLn; subst hΦ
  have h414 := F.ok.1.2.2
  have hrc := F.rc
  have hrs := F.rs
  show Wg Φ 6 _ 0 0 0 [(0, _), (1, _), (2, _)] []
  refine w_rng (fun hR => ?_)
  have hb : γ 0 0 0 = (v.1 : Int) := hM.1
  have hb2 := hV.1.1
  refine w_iload_n F dX8_soonest_0 rfl ?_
  refine w_iconst F dX8_soonest_1 ?_
  refine w_bipush F dX8_soonest_2 rfl ?_
  refine w_callS F (As := [_, _, _]) (ct_in hE γ ha inR0 (by decide)) (lw_S q980 q981 q88 q982) md_X8_in rfl rfl (Nat.le_of_ble_eq_true rfl) dX8_soonest_4 ⟨by omega, by omega⟩ ⟨by omega, by omega⟩ ?_
  rintro _ _ ⟨rfl, rfl⟩
  refine w_if_eq F (tgt := 21) dX8_soonest_7 (by decide) (b2i_R _) (fun h => ?_) (fun h => ?_)
  · rw [b2i_0] at h
    refine w_iconst F dX8_soonest_21 ?_
    exact w_iret F (by omega) (by omega) (⟨rfl, Or.inl ⟨fun q => h q.1, rfl⟩⟩) dX8_soonest_22
  · rw [b2i_n0] at h
    refine w_iload_n F dX8_soonest_10 rfl ?_
    refine w_iconst F dX8_soonest_11 ?_
    refine w_sipush F dX8_soonest_12 rfl ?_
    refine w_callS F (As := [_, _, _]) (ct_in hE γ hu inR0 (by decide)) (lw_S q980 q981 q88 q982) md_X8_in rfl rfl (Nat.le_of_ble_eq_true rfl) dX8_soonest_15 ⟨by omega, by omega⟩ ⟨by omega, by omega⟩ ?_
    rintro _ _ ⟨rfl, rfl⟩
    refine w_if_ne F (tgt := 23) dX8_soonest_18 (by decide) (b2i_R _) (fun h2 => ?_) (fun h2 => ?_)
    · rw [b2i_n0] at h2
      refine w_bipush F dX8_soonest_23 rfl ?_
      refine w_istore_n F dX8_soonest_25 (by decide) rfl (lv' := [(0, _), (1, _), (2, _), (3, _)]) rfl ?_
      refine w_iconst F dX8_soonest_26 ?_
      refine w_istore F dX8_soonest_27 (by decide) rfl (lv' := [(0, _), (1, _), (2, _), (3, _), (4, _)]) rfl ?_
      have loop : ∀ m j (b : Int), j ≤ 12 → 12 - j < m → b = (List.range j).foldl (stp (v.2.1 2) (sooS v a u)) (-4) → Wg Φ 6 γ 0 0 29 [(0, .ref (Φ.E.ad 414)), (1, .int (iI a)), (2, .int (iI u)), (3, .int (iI b)), (4, .int (iI (j : Int)))] [] := by
        intro m
        induction m with
        | zero => intro j b h1 h2; omega
        | succ m ih =>
          intro j b h3 h4 h5
          have hbb : b = -4 ∨ ∃ i : Nat, b = (i : Int) ∧ i < j ∧ v.1.testBit i = true := by
            rcases (bst_spec (v.2.1 2) (sooS v a u) (List.range j)).in with q | ⟨i, q, q2, q3⟩
            · left; rw [h5]; exact q
            · right
              simp [sooS] at q3
              exact ⟨i, by rw [h5]; exact q, by simpa using q2, q3.1⟩
          have hbr : -4 ≤ b ∧ b < 12 := by
            rcases hbb with q | ⟨i, q, q2, q3⟩ <;> omega
          refine w_rng (fun hR => ?_)
          refine w_iload F dX8_soonest_29 rfl ?_
          refine w_bipush F dX8_soonest_31 rfl ?_
          refine w_icmp_ge F (tgt := 113) dX8_soonest_33 (by decide) (by first | assumption | exact inR0 | exact (hR _ _ _).1 | (constructor <;> omega)) (by first | assumption | exact inR0 | exact (hR _ _ _).1 | (constructor <;> omega)) (fun h6 => ?_) (fun h6 => ?_)
          · have e : j = 12 := by omega
            subst e
            refine w_iload_n F dX8_soonest_113 rfl ?_
            exact w_iret F (by omega) (by omega) (⟨rfl, Or.inr ⟨⟨h, h2⟩, by rw [h5]; rfl⟩⟩) dX8_soonest_114
          · have nxt : ∀ b' : Int, b' = stp (v.2.1 2) (sooS v a u) b j → Wg Φ 6 γ 0 0 107 [(0, .ref (Φ.E.ad 414)), (1, .int (iI a)), (2, .int (iI u)), (3, .int (iI b')), (4, .int (iI (j : Int)))] [] := by
              intro b' hb'
              refine w_iinc F dX8_soonest_107 rfl (by decide) rfl (lv' := [(0, _), (1, _), (2, _), (3, _), (4, _)]) rfl ?_
              refine w_goto F (tgt := 29) dX8_soonest_110 (by decide) ?_
              refine ih (j + 1) b' (by omega) (by clear hbb hbr h5 hb'; omega) ?_
              rw [List.range_succ, List.foldl_append, ← h5]
              exact hb'
            refine w_aload_n F dX8_soonest_36 rfl rfl ?_
            refine w_iload F dX8_soonest_37 rfl ?_
            refine w_callV F (As := [_]) (ct_isJob hE hm γ hb hb2 (j := (j : Int)) (by omega)) (lw_V q976 q978 qs45 q88 q979) md_X8_isJob (by omega) cell_mdO rfl rfl rfl rfl (Nat.le_of_ble_eq_true rfl) dX8_soonest_39 ⟨by omega, by omega⟩ ⟨by omega, by omega⟩ ?_
            rintro _ _ ⟨rfl, rfl⟩
            refine w_if_eq F (tgt := 70) dX8_soonest_42 (by decide) (b2i_R _) (fun h7 => ?_) (fun h7 => ?_)
            · rw [b2i_0] at h7
              have hs : sooS v a u j = false := by
                cases e : sooS v a u j with
                | false => rfl
                | true => exact absurd ⟨by omega, by omega, by simp [sooS] at e; simpa using e.1⟩ h7
              refine w_iconst F dX8_soonest_70 ?_
              refine w_istore F dX8_soonest_71 (by decide) rfl (lv' := [(0, _), (1, _), (2, _), (3, _), (4, _), (5, _)]) rfl ?_
              refine w_iload F dX8_soonest_73 rfl ?_
              refine w_if_eq F (tgt := 105) dX8_soonest_75 (by decide) (by first | assumption | exact inR0 | exact (hR _ _ _).1 | (constructor <;> omega)) (fun h8 => ?_) (fun h8 => ?_)
              · refine w_iload_n F dX8_soonest_105 rfl ?_
                refine w_istore_n F dX8_soonest_106 (by decide) rfl (lv' := [(0, _), (1, _), (2, _), (3, _), (4, _), (5, _)]) rfl ?_
                refine w_keep [0, 1, 2, 3, 4] (lv' := [(0, _), (1, _), (2, _), (3, _), (4, _)]) rfl ?_
                exact nxt b (stp_no hs).symm
              · omega
            · rw [b2i_n0] at h7
              have ht : v.1.testBit j = true := by simpa using h7.2.2
              obtain ⟨jr, jk, j2, jb⟩ := hM.jr hV ht
              have rj := rk_in (k := γ 0 1 j) jr.2.1.1 jr.2.1.2 jr.2.2.1 jr.2.2.2
              refine w_aload_n F dX8_soonest_45 rfl rfl ?_
              refine w_get F (by omega) cell_mdO rfl in_X8 2 (by decide) (Or.inl q874) rfl dX8_soonest_46 ?_
              refine w_iload F dX8_soonest_49 rfl ?_
              first | refine w_ialdN F (aM2 _) (by omega) (by decide) (by omega) dX8_soonest_51 ?_ | refine w_iald F (aM2 _) (by omega) (by decide) (by omega) (by omega) dX8_soonest_51 ?_
              refine w_top j2 ?_
              refine w_iload_n F dX8_soonest_52 rfl ?_
              refine w_icmp_lt F (tgt := 70) dX8_soonest_53 (by decide) (by first | assumption | exact inR0 | exact (hR _ _ _).1 | (constructor <;> omega)) (by first | assumption | exact inR0 | exact (hR _ _ _).1 | (constructor <;> omega)) (fun h8 => ?_) (fun h8 => ?_)
              · have hs : sooS v a u j = false := by
                  cases e : sooS v a u j with
                  | false => rfl
                  | true => simp [sooS] at e; omega
                refine w_iconst F dX8_soonest_70 ?_
                refine w_istore F dX8_soonest_71 (by decide) rfl (lv' := [(0, _), (1, _), (2, _), (3, _), (4, _), (5, _)]) rfl ?_
                refine w_iload F dX8_soonest_73 rfl ?_
                refine w_if_eq F (tgt := 105) dX8_soonest_75 (by decide) (by first | assumption | exact inR0 | exact (hR _ _ _).1 | (constructor <;> omega)) (fun h9 => ?_) (fun h9 => ?_)
                · refine w_iload_n F dX8_soonest_105 rfl ?_
                  refine w_istore_n F dX8_soonest_106 (by decide) rfl (lv' := [(0, _), (1, _), (2, _), (3, _), (4, _), (5, _)]) rfl ?_
                  refine w_keep [0, 1, 2, 3, 4] (lv' := [(0, _), (1, _), (2, _), (3, _), (4, _)]) rfl ?_
                  exact nxt b (stp_no hs).symm
                · omega
              · refine w_aload_n F dX8_soonest_56 rfl rfl ?_
                refine w_iload F dX8_soonest_57 rfl ?_
                refine w_callV F (As := [_]) (ct_rank hE hm γ jr.1 jr.2.1.1 jr.2.1.2 jr.2.2.1 jr.2.2.2) (lw_V q983 q985 qs46 q88 q986) md_X8_rank (by omega) cell_mdO rfl rfl rfl rfl (Nat.le_of_ble_eq_true rfl) dX8_soonest_59 ⟨by omega, by omega⟩ ⟨by omega, by omega⟩ ?_
                rintro _ _ ⟨rfl, rfl⟩
                refine w_iload_n F dX8_soonest_62 rfl ?_
                refine w_icmp_gt F (tgt := 70) dX8_soonest_63 (by decide) (by first | assumption | exact inR0 | exact (hR _ _ _).1 | (constructor <;> omega)) (by first | assumption | exact inR0 | exact (hR _ _ _).1 | (constructor <;> omega)) (fun h9 => ?_) (fun h9 => ?_)
                · have hs : sooS v a u j = false := by
                    cases e : sooS v a u j with
                    | false => rfl
                    | true => simp [sooS] at e; have := e.2.2; rw [← jk] at this; unfold rkT at this; omega
                  refine w_iconst F dX8_soonest_70 ?_
                  refine w_istore F dX8_soonest_71 (by decide) rfl (lv' := [(0, _), (1, _), (2, _), (3, _), (4, _), (5, _)]) rfl ?_
                  refine w_iload F dX8_soonest_73 rfl ?_
                  refine w_if_eq F (tgt := 105) dX8_soonest_75 (by decide) (by first | assumption | exact inR0 | exact (hR _ _ _).1 | (constructor <;> omega)) (fun h10 => ?_) (fun h10 => ?_)
                  · refine w_iload_n F dX8_soonest_105 rfl ?_
                    refine w_istore_n F dX8_soonest_106 (by decide) rfl (lv' := [(0, _), (1, _), (2, _), (3, _), (4, _), (5, _)]) rfl ?_
                    refine w_keep [0, 1, 2, 3, 4] (lv' := [(0, _), (1, _), (2, _), (3, _), (4, _)]) rfl ?_
                    exact nxt b (stp_no hs).symm
                  · omega
                · have hs : sooS v a u j = true := by
                    simp [sooS]
                    refine ⟨ht, by omega, ?_⟩
                    rw [← jk]
                    unfold rkT
                    omega
                  refine w_iconst F dX8_soonest_66 ?_
                  refine w_goto F (tgt := 71) dX8_soonest_67 (by decide) ?_
                  refine w_istore F dX8_soonest_71 (by decide) rfl (lv' := [(0, _), (1, _), (2, _), (3, _), (4, _), (5, _)]) rfl ?_
                  refine w_iload F dX8_soonest_73 rfl ?_
                  refine w_if_eq F (tgt := 105) dX8_soonest_75 (by decide) (by first | assumption | exact inR0 | exact (hR _ _ _).1 | (constructor <;> omega)) (fun h10 => ?_) (fun h10 => ?_)
                  · omega
                  · refine w_iload_n F dX8_soonest_78 rfl ?_
                    refine w_bipush F dX8_soonest_79 rfl ?_
                    refine w_icmp_eq F (tgt := 100) dX8_soonest_81 (by decide) (by first | assumption | exact inR0 | exact (hR _ _ _).1 | (constructor <;> omega)) (by first | assumption | exact inR0 | exact (hR _ _ _).1 | (constructor <;> omega)) (fun h11 => ?_) (fun h11 => ?_)
                    · refine w_iload F dX8_soonest_100 rfl ?_
                      refine w_goto F (tgt := 106) dX8_soonest_102 (by decide) ?_
                      refine w_istore_n F dX8_soonest_106 (by decide) rfl (lv' := [(0, _), (1, _), (2, _), (3, _), (4, _), (5, _)]) rfl ?_
                      refine w_keep [0, 1, 2, 3, 4] (lv' := [(0, _), (1, _), (2, _), (3, _), (4, _)]) rfl ?_
                      exact nxt (j : Int) (by unfold stp; rw [if_pos ⟨hs, Or.inl h11⟩])
                    · obtain ⟨i, rfl, i2, i3⟩ : ∃ i : Nat, b = (i : Int) ∧ i < j ∧ v.1.testBit i = true := by
                        rcases hbb with q | q
                        · exact absurd q h11
                        · exact q
                      obtain ⟨ir, ik, ii2, ib⟩ := hM.jr hV i3
                      refine w_aload_n F dX8_soonest_84 rfl rfl ?_
                      refine w_get F (by omega) cell_mdO rfl in_X8 2 (by decide) (Or.inl q874) rfl dX8_soonest_85 ?_
                      refine w_iload F dX8_soonest_88 rfl ?_
                      first | refine w_ialdN F (aM2 _) (by omega) (by decide) (by omega) dX8_soonest_90 ?_ | refine w_iald F (aM2 _) (by omega) (by decide) (by omega) (by omega) dX8_soonest_90 ?_
                      refine w_top j2 ?_
                      refine w_aload_n F dX8_soonest_91 rfl rfl ?_
                      refine w_get F (by omega) cell_mdO rfl in_X8 2 (by decide) (Or.inl q874) rfl dX8_soonest_92 ?_
                      refine w_iload_n F dX8_soonest_95 rfl ?_
                      first | refine w_ialdN F (aM2 _) (by omega) (by decide) (by omega) dX8_soonest_96 ?_ | refine w_iald F (aM2 _) (by omega) (by decide) (by omega) (by omega) dX8_soonest_96 ?_
                      refine w_top ii2 ?_
                      refine w_icmp_ge F (tgt := 105) dX8_soonest_97 (by decide) (by first | assumption | exact inR0 | exact (hR _ _ _).1 | (constructor <;> omega)) (by first | assumption | exact inR0 | exact (hR _ _ _).1 | (constructor <;> omega)) (fun h12 => ?_) (fun h12 => ?_)
                      · refine w_iload_n F dX8_soonest_105 rfl ?_
                        refine w_istore_n F dX8_soonest_106 (by decide) rfl (lv' := [(0, _), (1, _), (2, _), (3, _), (4, _), (5, _)]) rfl ?_
                        refine w_keep [0, 1, 2, 3, 4] (lv' := [(0, _), (1, _), (2, _), (3, _), (4, _)]) rfl ?_
                        exact nxt (i : Int) (by unfold stp; rw [if_neg (by simp; omega)])
                      · refine w_iload F dX8_soonest_100 rfl ?_
                        refine w_goto F (tgt := 106) dX8_soonest_102 (by decide) ?_
                        refine w_istore_n F dX8_soonest_106 (by decide) rfl (lv' := [(0, _), (1, _), (2, _), (3, _), (4, _), (5, _)]) rfl ?_
                        refine w_keep [0, 1, 2, 3, 4] (lv' := [(0, _), (1, _), (2, _), (3, _), (4, _)]) rfl ?_
                        exact nxt (j : Int) (by unfold stp; rw [if_pos ⟨hs, Or.inr (Or.inl (by simp; omega))⟩])
      exact loop 13 0 (-4) (by omega) (by omega) rfl
    · rw [b2i_0] at h2
      refine w_iconst F dX8_soonest_21 ?_
      exact w_iret F (by omega) (by omega) (⟨rfl, Or.inl ⟨fun q => h2 q.2, rfl⟩⟩) dX8_soonest_22
theorem ct_firstM (hE : EOk E) (hm : 438 ≤ E.nk) (γ : GG) {v : VV} (hM : MV (γ 0) v.1 v.2.1 v.2.2) (hV : VOk v) {a b w : Int} (ha : InR a) (hbr : InR b) (hw : InR w) : Ct l yX8_first cX8_first 8 (some .int) E 600 36000 [.ref (E.ad 414), .int (iI a), .int (iI b), .int (iI w)] γ (fun r g => γ = g ∧ ((¬ (btw a b ∧ 0 ≤ w ∧ w ≤ 11) ∧ r = some (.int (iI (-1)))) ∨ ((btw a b ∧ 0 ≤ w ∧ w ≤ 11) ∧ r = some (.int (iI (kth (rkT v.2.1) w.toNat (frS v a b))))))) 0 0 := by
  refine Ct.of hE (by decide) (Nat.le_of_ble_eq_true rfl) (fun Φ hLn hΦ F hfr hlo => ?_)
  subst hLn; subst hΦ
  have h414 := F.ok.1.2.2
  have hrc := F.rc
  have hrs := F.rs
  show Wg Φ 8 _ 0 0 0 [(0, _), (1, _), (2, _), (3, _)] []
  refine w_rng (fun hR => ?_)
  have hb : γ 0 0 0 = (v.1 : Int) := hM.1
  have hb2 := hV.1.1
  refine w_iload_n F dX8_first_0 rfl ?_
  refine w_iload_n F dX8_first_1 rfl ?_
  refine w_callS F (As := [_, _]) (ct_isBetween hE γ ha hbr) (lw_S q1082 q1083 q88 q1084) md_X8_isBetween rfl rfl (Nat.le_of_ble_eq_true rfl) dX8_first_2 ⟨by omega, by omega⟩ ⟨by omega, by omega⟩ ?_
  rintro _ _ ⟨rfl, rfl⟩
  refine w_if_eq F (tgt := 18) dX8_first_5 (by decide) (b2i_R _) (fun h => ?_) (fun h => ?_)
  · rw [b2i_0] at h
    refine w_iconst F dX8_first_18 ?_
    exact w_iret F (by omega) (by omega) (⟨rfl, Or.inl ⟨fun q => h q.1, rfl⟩⟩) dX8_first_19
  · rw [b2i_n0] at h
    refine w_iload_n F dX8_first_8 rfl ?_
    refine w_iconst F dX8_first_9 ?_
    refine w_bipush F dX8_first_10 rfl ?_
    refine w_callS F (As := [_, _, _]) (ct_in hE γ hw inR0 (by decide)) (lw_S q980 q981 q88 q982) md_X8_in rfl rfl (Nat.le_of_ble_eq_true rfl) dX8_first_12 ⟨by omega, by omega⟩ ⟨by omega, by omega⟩ ?_
    rintro _ _ ⟨rfl, rfl⟩
    refine w_if_ne F (tgt := 20) dX8_first_15 (by decide) (b2i_R _) (fun h2 => ?_) (fun h2 => ?_)
    · rw [b2i_n0] at h2
      obtain ⟨n, rfl⟩ : ∃ n : Nat, w = (n : Int) := ⟨w.toNat, by omega⟩
      obtain ⟨S, hS⟩ : ∃ S : Nat → Nat → Bool, S = fun d j => frS v a b j && !d.testBit j := ⟨_, rfl⟩
      have inn : ∀ (d i : Nat), d < 4096 → i ≤ n → Wg Φ 8 γ 0 0 110 [(0, .ref (Φ.E.ad 414)), (1, .int (iI a)), (2, .int (iI b)), (3, .int (iI (n : Int))), (4, .int (iI (d : Int))), (5, .int (iI (bst (rkT v.2.1) (S d) (List.range 12)))), (6, .int (iI (i : Int)))] [] → ∀ (m j : Nat) (c : Int), j ≤ 12 → 12 - j < m → c = (List.range j).foldl (stp (rkT v.2.1) (S d)) (-4) → Wg Φ 8 γ 0 0 43 [(0, .ref (Φ.E.ad 414)), (1, .int (iI a)), (2, .int (iI b)), (3, .int (iI (n : Int))), (4, .int (iI (d : Int))), (5, .int (iI c)), (6, .int (iI (i : Int))), (7, .int (iI (j : Int)))] [] := by
        intro d i hd hi K m
        induction m with
        | zero => intro j c h1 h2; omega
        | succ m ih =>
          intro j c h3 h4 h5
          have hcc : c = -4 ∨ ∃ i : Nat, c = (i : Int) ∧ i < j ∧ v.1.testBit i = true := by
            rcases (bst_spec (rkT v.2.1) (S d) (List.range j)).in with q | ⟨i, q, q2, q3⟩
            · left; rw [h5]; exact q
            · right
              simp [hS, frS] at q3
              exact ⟨i, by rw [h5]; exact q, by simpa using q2, q3.1.1⟩
          have hcr : -4 ≤ c ∧ c < 12 := by
            rcases hcc with q | ⟨i, q, q2, q3⟩ <;> omega
          refine w_rng (fun hR => ?_)
          refine w_iload F dX8_first_43 rfl ?_
          refine w_bipush F dX8_first_45 rfl ?_
          refine w_icmp_ge F (tgt := 110) dX8_first_47 (by decide) (by first | assumption | exact inR0 | exact (hR _ _ _).1 | (constructor <;> omega)) (by first | assumption | exact inR0 | exact (hR _ _ _).1 | (constructor <;> omega)) (fun h6 => ?_) (fun h6 => ?_)
          · have e : j = 12 := by omega
            subst e
            refine w_keep [0, 1, 2, 3, 4, 5, 6] (lv' := [(0, _), (1, _), (2, _), (3, _), (4, _), (5, _), (6, _)]) rfl ?_
            rw [h5]
            exact K
          · have nxt : ∀ c' : Int, c' = stp (rkT v.2.1) (S d) c j → Wg Φ 8 γ 0 0 104 [(0, .ref (Φ.E.ad 414)), (1, .int (iI a)), (2, .int (iI b)), (3, .int (iI (n : Int))), (4, .int (iI (d : Int))), (5, .int (iI c')), (6, .int (iI (i : Int))), (7, .int (iI (j : Int)))] [] := by
              intro c' hc'
              refine w_iinc F dX8_first_104 rfl (by decide) rfl (lv' := [(0, _), (1, _), (2, _), (3, _), (4, _), (5, _), (6, _), (7, _)]) rfl ?_
              refine w_goto F (tgt := 43) dX8_first_107 (by decide) ?_
              refine ih (j + 1) c' (by omega) (by clear hcc hcr h5 hc'; omega) ?_
              rw [List.range_succ, List.foldl_append, ← h5]
              exact hc'
            refine w_aload_n F dX8_first_50 rfl rfl ?_
            refine w_iload F dX8_first_51 rfl ?_
            refine w_callV F (As := [_]) (ct_isJob hE hm γ hb hb2 (j := (j : Int)) (by omega)) (lw_V q976 q978 qs45 q88 q979) md_X8_isJob (by omega) cell_mdO rfl rfl rfl rfl (Nat.le_of_ble_eq_true rfl) dX8_first_53 ⟨by omega, by omega⟩ ⟨by omega, by omega⟩ ?_
            rintro _ _ ⟨rfl, rfl⟩
            refine w_if_eq F (tgt := 100) dX8_first_56 (by decide) (b2i_R _) (fun h7 => ?_) (fun h7 => ?_)
            · rw [b2i_0] at h7
              have hs : S d j = false := by
                cases e : S d j with
                | false => rfl
                | true => exact absurd ⟨by omega, by omega, by simp [hS, frS] at e; simpa using e.1.1⟩ h7
              refine w_iload F dX8_first_100 rfl ?_
              refine w_istore F dX8_first_102 (by decide) rfl (lv' := [(0, _), (1, _), (2, _), (3, _), (4, _), (5, _), (6, _), (7, _)]) rfl ?_
              exact nxt c (stp_no hs).symm
            · rw [b2i_n0] at h7
              have ht : v.1.testBit j = true := by simpa using h7.2.2
              obtain ⟨jr, jk, j2, jb⟩ := hM.jr hV ht
              refine w_iload F dX8_first_59 rfl ?_
              refine w_iload F dX8_first_61 rfl ?_
              refine w_callS F (As := [_, _]) (ct_has hE γ (a := d) (j := j) (by omega) (by omega)) (lw_S q830 q831 q88 q832) md_X8_has rfl rfl (Nat.le_of_ble_eq_true rfl) dX8_first_63 ⟨by omega, by omega⟩ ⟨by omega, by omega⟩ ?_
              rintro _ _ ⟨rfl, rfl⟩
              refine w_if_ne F (tgt := 100) dX8_first_66 (by decide) (b2i_R _) (fun h8 => ?_) (fun h8 => ?_)
              · rw [b2i_n0] at h8
                have hs : S d j = false := by simp [hS, h8]
                refine w_iload F dX8_first_100 rfl ?_
                refine w_istore F dX8_first_102 (by decide) rfl (lv' := [(0, _), (1, _), (2, _), (3, _), (4, _), (5, _), (6, _), (7, _)]) rfl ?_
                exact nxt c (stp_no hs).symm
              · rw [b2i_0] at h8
                refine w_aload_n F dX8_first_69 rfl rfl ?_
                refine w_get F (by omega) cell_mdO rfl in_X8 2 (by decide) (Or.inl q874) rfl dX8_first_70 ?_
                refine w_iload F dX8_first_73 rfl ?_
                first | refine w_ialdN F (aM2 _) (by omega) (by decide) (by omega) dX8_first_75 ?_ | refine w_iald F (aM2 _) (by omega) (by decide) (by omega) (by omega) dX8_first_75 ?_
                refine w_top j2 ?_
                refine w_iload_n F dX8_first_76 rfl ?_
                refine w_iload_n F dX8_first_77 rfl ?_
                refine w_callS F (As := [_, _, _]) (ct_in hE γ (v := v.2.1 2 j) (by omega) ha hbr) (lw_S q980 q981 q88 q982) md_X8_in rfl rfl (Nat.le_of_ble_eq_true rfl) dX8_first_78 ⟨by omega, by omega⟩ ⟨by omega, by omega⟩ ?_
                rintro _ _ ⟨rfl, rfl⟩
                refine w_if_eq F (tgt := 100) dX8_first_81 (by decide) (b2i_R _) (fun h9 => ?_) (fun h9 => ?_)
                · rw [b2i_0] at h9
                  have hs : S d j = false := by
                    cases e : S d j with
                    | false => rfl
                    | true => simp [hS, frS] at e; omega
                  refine w_iload F dX8_first_100 rfl ?_
                  refine w_istore F dX8_first_102 (by decide) rfl (lv' := [(0, _), (1, _), (2, _), (3, _), (4, _), (5, _), (6, _), (7, _)]) rfl ?_
                  exact nxt c (stp_no hs).symm
                · rw [b2i_n0] at h9
                  have hs : S d j = true := by
                    simp [hS, frS]
                    exact ⟨⟨ht, h9⟩, by simpa using h8⟩
                  have hcj : c = -4 ∨ ∃ i : Nat, c = (i : Int) ∧ JR (γ 0) i := by
                    rcases hcc with q | ⟨i, q, q2, q3⟩
                    · exact Or.inl q
                    · exact Or.inr ⟨i, q, (hM.jr hV q3).1⟩
                  have hiff : (c = -4 ∨ rkT (γ 0) j < rkT (γ 0) c.toNat ∨ rkT (γ 0) j = rkT (γ 0) c.toNat ∧ (j : Int) < c) ↔ (c = -4 ∨ rkT v.2.1 j < rkT v.2.1 c.toNat ∨ rkT v.2.1 j = rkT v.2.1 c.toNat ∧ (j : Int) < c) := by
                    rcases hcc with q | ⟨i, q, q2, q3⟩
                    · simp [q]
                    · rw [q, Int.toNat_natCast, jk, (hM.jr hV q3).2.1]
                  refine w_aload_n F dX8_first_84 rfl rfl ?_
                  refine w_iload F dX8_first_85 rfl ?_
                  refine w_iload F dX8_first_87 rfl ?_
                  refine w_callV F (As := [_, _]) (ct_isDue hE hm γ jr hcj) (lw_V q1003 q1005 qs51 q88 q1006) md_X8_isDue (by omega) cell_mdO rfl rfl rfl rfl (Nat.le_of_ble_eq_true rfl) dX8_first_89 ⟨by omega, by omega⟩ ⟨by omega, by omega⟩ ?_
                  rintro _ _ ⟨rfl, rfl⟩
                  refine w_if_eq F (tgt := 100) dX8_first_92 (by decide) (b2i_R _) (fun h10 => ?_) (fun h10 => ?_)
                  · rw [b2i_0] at h10
                    refine w_iload F dX8_first_100 rfl ?_
                    refine w_istore F dX8_first_102 (by decide) rfl (lv' := [(0, _), (1, _), (2, _), (3, _), (4, _), (5, _), (6, _), (7, _)]) rfl ?_
                    exact nxt c (by unfold stp; rw [if_neg (fun q => h10 (hiff.mpr q.2))])
                  · rw [b2i_n0] at h10
                    refine w_iload F dX8_first_95 rfl ?_
                    refine w_goto F (tgt := 102) dX8_first_97 (by decide) ?_
                    refine w_istore F dX8_first_102 (by decide) rfl (lv' := [(0, _), (1, _), (2, _), (3, _), (4, _), (5, _), (6, _), (7, _)]) rfl ?_
                    exact nxt (j : Int) (by unfold stp; rw [if_pos ⟨hs, hiff.mp h10⟩])
      obtain ⟨tg, htg⟩ : ∃ t, t = kth (rkT v.2.1) n (frS v a b) := ⟨_, rfl⟩
      have loop : ∀ (m i d : Nat) (c : Int), d < 4096 → i ≤ n + 1 → n + 1 - i < m → -4 ≤ c → c < 12 → (i ≤ n → kth (rkT v.2.1) (n - i) (S d) = tg) → (n < i → c = tg) → Wg Φ 8 γ 0 0 30 [(0, .ref (Φ.E.ad 414)), (1, .int (iI a)), (2, .int (iI b)), (3, .int (iI (n : Int))), (4, .int (iI (d : Int))), (5, .int (iI c)), (6, .int (iI (i : Int)))] [] := by
        intro m
        induction m with
        | zero => intro i d c h1 h2 h3; omega
        | succ m ih =>
          intro i d c hd h3 h4 h5 h6 h7 h8
          refine w_iload F dX8_first_30 rfl ?_
          refine w_iload_n F dX8_first_32 rfl ?_
          refine w_icmp_gt F (tgt := 136) dX8_first_33 (by decide) (by first | assumption | exact inR0 | exact (hR _ _ _).1 | (constructor <;> omega)) (by first | assumption | exact inR0 | exact (hR _ _ _).1 | (constructor <;> omega)) (fun h9 => ?_) (fun h9 => ?_)
          · refine w_iload F dX8_first_136 rfl ?_
            exact w_iret F (by omega) (by omega) (⟨rfl, Or.inr ⟨⟨h, h2⟩, by rw [h8 (by omega), htg, Int.toNat_natCast]⟩⟩) dX8_first_138
          · have hin : i ≤ n := by omega
            refine w_bipush F dX8_first_36 rfl ?_
            refine w_istore F dX8_first_38 (by decide) rfl (lv' := [(0, _), (1, _), (2, _), (3, _), (4, _), (5, _), (6, _)]) rfl ?_
            refine w_iconst F dX8_first_40 ?_
            refine w_istore F dX8_first_41 (by decide) rfl (lv' := [(0, _), (1, _), (2, _), (3, _), (4, _), (5, _), (6, _), (7, _)]) rfl ?_
            refine inn d i hd hin ?_ 13 0 (-4) (by omega) (by omega) rfl
            have h7 := h7 hin
            rcases (bst_spec (rkT v.2.1) (S d) (List.range 12)).in with q | ⟨k, q, q2, q3⟩
            · rw [q]
              refine w_iload F dX8_first_110 rfl ?_
              refine w_iload F dX8_first_112 rfl ?_
              refine w_bipush F dX8_first_114 rfl ?_
              refine w_icmp_ne F (tgt := 123) dX8_first_116 (by decide) (by first | assumption | exact inR0 | exact (hR _ _ _).1 | (constructor <;> omega)) (by first | assumption | exact inR0 | exact (hR _ _ _).1 | (constructor <;> omega)) (fun h10 => ?_) (fun h10 => ?_)
              · omega
              · refine w_iconst F dX8_first_119 ?_
                refine w_goto F (tgt := 127) dX8_first_120 (by decide) ?_
                refine w_ior F dX8_first_127 ?_
                refine w_istore F dX8_first_128 (by decide) rfl (lv' := [(0, _), (1, _), (2, _), (3, _), (4, _), (5, _), (6, _)]) rfl ?_
                refine w_iinc F dX8_first_130 rfl (by decide) rfl (lv' := [(0, _), (1, _), (2, _), (3, _), (4, _), (5, _), (6, _)]) rfl ?_
                refine w_goto F (tgt := 30) dX8_first_133 (by decide) ?_
                refine ih (i + 1) (d ||| 0) (-4) (by simpa using hd) (by omega) (by omega) (by omega) (by omega) (fun hq => ?_) (fun hq => ?_)
                · rw [show n - i = (n - (i + 1)) + 1 by omega] at h7
                  rw [← h7]
                  show _ = kth _ _ (wo (S d) (bst (rkT v.2.1) (S d) (List.range 12)))
                  rw [q]
                  exact kth_cg _ (fun j hj => by rw [Nat.or_zero]; unfold wo; simp)
                · rw [show n - i = 0 by omega] at h7
                  rw [← h7, ← q]
                  rfl
            · have hk : k < 12 := by simpa using q2
              have hpw : 2 ^ k < 4096 := Nat.pow_lt_pow_right (n := 12) (by decide) hk
              rw [q]
              refine w_iload F dX8_first_110 rfl ?_
              refine w_iload F dX8_first_112 rfl ?_
              refine w_bipush F dX8_first_114 rfl ?_
              refine w_icmp_ne F (tgt := 123) dX8_first_116 (by decide) (by first | assumption | exact inR0 | exact (hR _ _ _).1 | (constructor <;> omega)) (by first | assumption | exact inR0 | exact (hR _ _ _).1 | (constructor <;> omega)) (fun h10 => ?_) (fun h10 => ?_)
              · refine w_iconst F dX8_first_123 ?_
                refine w_iload F dX8_first_124 rfl ?_
                refine w_ishl1 F (by omega) dX8_first_126 ?_
                refine w_ior F dX8_first_127 ?_
                refine w_istore F dX8_first_128 (by decide) rfl (lv' := [(0, _), (1, _), (2, _), (3, _), (4, _), (5, _), (6, _)]) rfl ?_
                refine w_iinc F dX8_first_130 rfl (by decide) rfl (lv' := [(0, _), (1, _), (2, _), (3, _), (4, _), (5, _), (6, _)]) rfl ?_
                refine w_goto F (tgt := 30) dX8_first_133 (by decide) ?_
                refine ih (i + 1) (d ||| 2 ^ k) (k : Int) (or_lt hd hk) (by omega) (by omega) (by omega) (by omega) (fun hq => ?_) (fun hq => ?_)
                · rw [show n - i = (n - (i + 1)) + 1 by omega] at h7
                  rw [← h7]
                  show _ = kth _ _ (wo (S d) (bst (rkT v.2.1) (S d) (List.range 12)))
                  rw [q]
                  refine kth_cg _ (fun j hj => ?_)
                  rw [hS]
                  unfold wo
                  rw [show decide ((j : Int) = (k : Int)) = decide (k = j) by rw [decide_eq_decide]; omega]
                  simp [Nat.testBit_or, Nat.testBit_two_pow, Bool.and_assoc]
                · rw [show n - i = 0 by omega] at h7
                  rw [← h7, ← q]
                  rfl
              · omega
      refine w_iconst F dX8_first_20 ?_
      refine w_istore F dX8_first_21 (by decide) rfl (lv' := [(0, _), (1, _), (2, _), (3, _), (4, _)]) rfl ?_
      refine w_bipush F dX8_first_23 rfl ?_
      refine w_istore F dX8_first_25 (by decide) rfl (lv' := [(0, _), (1, _), (2, _), (3, _), (4, _), (5, _)]) rfl ?_
      refine w_iconst F dX8_first_27 ?_
      refine w_istore F dX8_first_28 (by decide) rfl (lv' := [(0, _), (1, _), (2, _), (3, _), (4, _), (5, _), (6, _)]) rfl ?_
      refine loop 13 0 0 (-4) (by omega) (by omega) (by omega) (by omega) (by omega) (fun _ => ?_) (fun hq => by omega)
      rw [htg]
      exact kth_cg _ (fun j _ => by rw [hS]; simp)
    · rw [b2i_0] at h2
      refine w_iconst F dX8_first_18 ?_
      exact w_iret F (by omega) (by omega) (⟨rfl, Or.inl ⟨fun q => h2 q.2, rfl⟩⟩) dX8_first_19
end M23
