/-! the model: dayTurn, day -/
def pick (b : Nat) : Nat → Nat → Nat
  | 0, j => j
  | m + 1, j => if b.testBit j = true then j else pick b m ((j + 1) % 12)
/-- one turn of a day: the value, how often it levels -/
def dtn (v : VV) (n : Nat) : VV × Nat :=
  if n % 4 < 2 ∧ cnt v.1 12 < 12 then (addV v ((n / 4 % 4 : Nat) : Int) ((n / 16 % 100 : Nat) : Int) ((n / 32 % 100 : Nat) : Int) 1, (addO (keyT (upT v.2.1 (fj v.1) ((n / 4 % 4 : Nat) : Int) ((n / 16 % 100 : Nat) : Int) ((n / 32 % 100 : Nat) : Int) 1)) (fj v.1) (some v.2.2)).2)
  else if 1 < cnt v.1 12 then (cutV v (pick v.1 12 (n / 4 % 12)), (cutT (keyT v.2.1) (keyT v.2.1 (pick v.1 12 (n / 4 % 12))) v.2.2).2) else (v, 0)
theorem pick_spec {b : Nat} : ∀ (m j i : Nat), j < 12 → i < m → b.testBit ((j + i) % 12) = true → b.testBit (pick b m j) = true
  | 0, j, i, _, h, _ => by omega
  | m + 1, j, i, hj, h, hb => by
    simp only [pick]
    split
    · assumption
    · rename_i hn
      cases i with
      | zero => rw [Nat.add_zero, Nat.mod_eq_of_lt hj] at hb; exact absurd hb hn
      | succ i => exact pick_spec m ((j + 1) % 12) i (by omega) (by omega) (by rw [show ((j + 1) % 12 + i) % 12 = (j + (i + 1)) % 12 by omega]; exact hb)
section M25
variable {l : Launch} {E : EE}
theorem ct_dayTurn (hE : EOk E) (hm : 438 ≤ E.nk) (γ : GG) {v : VV} (hM : MV (γ 0) v.1 v.2.1 v.2.2) (hV : VOk v) {n : Nat} (hn : n < 2000000000) (hlv : 0 ≤ γ 0 11 0 ∧ γ 0 11 0 < 2000000000) : Ct l yX8_dayTurn cX8_dayTurn 5 none E 600 36000 [.ref (E.ad 414), .long (lI (n : Int))] γ (fun r g => r = none ∧ MV (g 0) (dtn v n).1.1 (dtn v n).1.2.1 (dtn v n).1.2.2 ∧ g 0 11 0 = γ 0 11 0 + ((dtn v n).2 : Int) ∧ Off0 [0, 1, 2, 3, 4, 5, 6, 7, 8, 9, 10, 11, 12, 13, 14, 15] γ g) 0 0 := by
  refine Ct.of hE (by decide) (Nat.le_of_ble_eq_true rfl) (fun Φ hLn hΦ F hfr hlo => ?_)
  subst hLn; subst hΦ
  have h414 := F.ok.1.2.2
  have hrc := F.rc
  have hrs := F.rs
  show Wg Φ 5 _ 0 0 0 [(0, _), (1, _)] []
  refine w_rng (fun hR => ?_)
  have hb : γ 0 0 0 = (v.1 : Int) := hM.1
  have hb2 := hV.1.1
  have hcl := cnt_le v.1 12
  refine w_lload_n F dX8_dayTurn_0 rfl ?_
  refine w_l2i F dX8_dayTurn_1 ?_
  have rest : ¬ (n % 4 < 2 ∧ cnt v.1 12 < 12) → Wg Φ 5 γ 0 0 47 [(0, .ref (Φ.E.ad 414)), (1, .long (lI (n : Int))), (3, .int (iI (n : Int)))] [] := by
    intro hno
    refine w_aload_n F dX8_dayTurn_47 rfl rfl ?_
    refine w_callV F (As := []) (ct_many hE hm γ hb hb2) (lw_V q1030 q1032 qs55 q88 q1033) md_X8_many (by omega) cell_mdO rfl rfl rfl rfl (Nat.le_of_ble_eq_true rfl) dX8_dayTurn_48 ⟨by omega, by omega⟩ ⟨by omega, by omega⟩ ?_
    rintro _ _ ⟨rfl, rfl⟩
    refine w_iconst F dX8_dayTurn_51 ?_
    refine w_icmp_le F (tgt := 90) dX8_dayTurn_52 (by decide) (by first | assumption | exact inR0 | exact (hR _ _ _).1 | (constructor <;> omega)) (by first | assumption | exact inR0 | exact (hR _ _ _).1 | (constructor <;> omega)) (fun h1 => ?_) (fun h1 => ?_)
    · have e : dtn v n = (v, 0) := by unfold dtn; rw [if_neg hno, if_neg (by omega)]
      exact w_vret F (by omega) (by omega) (⟨rfl, by rw [e]; exact hM, by rw [e]; simp, Off0.rf⟩) dX8_dayTurn_90
    · obtain ⟨pk, hpk⟩ : ∃ p, p = pick v.1 12 (n / 4 % 12) := ⟨_, rfl⟩
      have e : dtn v n = (cutV v pk, (cutT (keyT v.2.1) (keyT v.2.1 pk) v.2.2).2) := by unfold dtn; rw [if_neg hno, if_pos (by omega), ← hpk]
      refine w_iload_n F dX8_dayTurn_55 rfl ?_
      refine w_iconst F dX8_dayTurn_56 ?_
      refine w_idiv F dX8_dayTurn_57 (by omega) (by first | assumption | exact inR0 | exact (hR _ _ _).1 | (constructor <;> omega)) (by decide) (by decide) ?_
      refine w_bipush F dX8_dayTurn_58 rfl ?_
      refine w_irem F dX8_dayTurn_60 (by omega) (by first | assumption | exact inR0 | exact (hR _ _ _).1 | (constructor <;> omega)) (by decide) (by decide) ?_
      refine w_top (z' := ((n / 4 % 12 : Nat) : Int)) (by omega) ?_
      refine w_istore F dX8_dayTurn_61 (by decide) rfl (lv' := [(0, _), (1, _), (3, _), (4, _)]) rfl ?_
      have loop : ∀ m j : Nat, j < 12 → pick v.1 m j = pk → (∃ i, i < m ∧ v.1.testBit ((j + i) % 12) = true) → Wg Φ 5 γ 0 0 63 [(0, .ref (Φ.E.ad 414)), (1, .long (lI (n : Int))), (3, .int (iI (n : Int))), (4, .int (iI (j : Int)))] [] := by
        intro m
        induction m with
        | zero => rintro j _ _ ⟨i, hi, _⟩; omega
        | succ m ih =>
          rintro j hj hp ⟨i, hi, hbi⟩
          have hp : (if v.1.testBit j = true then j else pick v.1 m ((j + 1) % 12)) = pk := hp
          refine w_aload_n F dX8_dayTurn_63 rfl rfl ?_
          refine w_iload F dX8_dayTurn_64 rfl ?_
          refine w_callV F (As := [_]) (ct_isJob hE hm γ hb hb2 (j := (j : Int)) (by omega)) (lw_V q976 q978 qs45 q88 q979) md_X8_isJob (by omega) cell_mdO rfl rfl rfl rfl (Nat.le_of_ble_eq_true rfl) dX8_dayTurn_66 ⟨by omega, by omega⟩ ⟨by omega, by omega⟩ ?_
          rintro _ _ ⟨rfl, rfl⟩
          refine w_if_ne F (tgt := 84) dX8_dayTurn_69 (by decide) (b2i_R _) (fun h2 => ?_) (fun h2 => ?_)
          · rw [b2i_n0] at h2
            have ht : v.1.testBit j = true := by simpa using h2.2.2
            rw [if_pos ht] at hp
            subst hp
            refine w_aload_n F dX8_dayTurn_84 rfl rfl ?_
            refine w_iload F dX8_dayTurn_85 rfl ?_
            refine w_callV F (As := [_]) (ct_goes hE hm γ hV.1 hM hV.2.1 hV.2.2 ht (hV.two (by omega)) hlv) (lw_V q1046 q1048 qs58 q88 q1049) md_X8_goes (by omega) cell_mdO rfl rfl rfl rfl (Nat.le_of_ble_eq_true rfl) dX8_dayTurn_87 ⟨by omega, by omega⟩ ⟨by omega, by omega⟩ ?_
            rintro _ g ⟨rfl, k1, k2, k3⟩
            exact w_vret F (by omega) (by omega) (⟨rfl, by rw [e]; exact k1, by rw [e]; exact k2, k3.mono (by decide)⟩) dX8_dayTurn_90
          · rw [b2i_0] at h2
            have ht : ¬ v.1.testBit j = true := fun q => h2 ⟨by omega, by omega, by simpa using q⟩
            rw [if_neg ht] at hp
            refine w_iload F dX8_dayTurn_72 rfl ?_
            refine w_iconst F dX8_dayTurn_74 ?_
            refine w_iadd F dX8_dayTurn_75 ?_
            refine w_bipush F dX8_dayTurn_76 rfl ?_
            refine w_irem F dX8_dayTurn_78 (by omega) (by first | assumption | exact inR0 | exact (hR _ _ _).1 | (constructor <;> omega)) (by decide) (by decide) ?_
            refine w_top (z' := (((j + 1) % 12 : Nat) : Int)) (by omega) ?_
            refine w_istore F dX8_dayTurn_79 (by decide) rfl (lv' := [(0, _), (1, _), (3, _), (4, _)]) rfl ?_
            refine w_goto F (tgt := 63) dX8_dayTurn_81 (by decide) ?_
            refine ih ((j + 1) % 12) (by omega) hp ?_
            cases i with
            | zero => rw [Nat.add_zero, Nat.mod_eq_of_lt hj] at hbi; exact absurd hbi ht
            | succ i => exact ⟨i, by omega, by rw [show ((j + 1) % 12 + i) % 12 = (j + (i + 1)) % 12 by omega]; exact hbi⟩
      obtain ⟨j0, hj0⟩ : ∃ j0, v.1.testBit j0 = true := by
        obtain ⟨z, hz⟩ := List.exists_mem_of_length_pos (tl_pos v.2.2)
        exact ⟨z, (hV.2.1.1 z).mp hz⟩
      have hj12 := tb12 hb2 hj0
      exact loop 12 (n / 4 % 12) (by omega) hpk.symm ⟨(j0 + 12 - n / 4 % 12) % 12, by omega, by rw [show (n / 4 % 12 + (j0 + 12 - n / 4 % 12) % 12) % 12 = j0 by omega]; exact hj0⟩
  refine w_istore_n F dX8_dayTurn_2 (by decide) rfl (lv' := [(0, _), (1, _), (3, _)]) rfl ?_
  refine w_iload_n F dX8_dayTurn_3 rfl ?_
  refine w_iconst F dX8_dayTurn_4 ?_
  refine w_irem F dX8_dayTurn_5 (by omega) (by first | assumption | exact inR0 | exact (hR _ _ _).1 | (constructor <;> omega)) (by decide) (by decide) ?_
  refine w_iconst F dX8_dayTurn_6 ?_
  refine w_icmp_ge F (tgt := 47) dX8_dayTurn_7 (by decide) (by first | assumption | exact inR0 | exact (hR _ _ _).1 | (constructor <;> omega)) (by first | assumption | exact inR0 | exact (hR _ _ _).1 | (constructor <;> omega)) (fun h1 => ?_) (fun h1 => ?_)
  · exact rest (by omega)
  · refine w_aload_n F dX8_dayTurn_10 rfl rfl ?_
    refine w_callV F (As := []) (ct_many hE hm γ hb hb2) (lw_V q1030 q1032 qs55 q88 q1033) md_X8_many (by omega) cell_mdO rfl rfl rfl rfl (Nat.le_of_ble_eq_true rfl) dX8_dayTurn_11 ⟨by omega, by omega⟩ ⟨by omega, by omega⟩ ?_
    rintro _ _ ⟨rfl, rfl⟩
    refine w_bipush F dX8_dayTurn_14 rfl ?_
    refine w_icmp_ge F (tgt := 47) dX8_dayTurn_16 (by decide) (by first | assumption | exact inR0 | exact (hR _ _ _).1 | (constructor <;> omega)) (by first | assumption | exact inR0 | exact (hR _ _ _).1 | (constructor <;> omega)) (fun h2 => ?_) (fun h2 => ?_)
    · exact rest (by omega)
    · have e : dtn v n = (addV v ((n / 4 % 4 : Nat) : Int) ((n / 16 % 100 : Nat) : Int) ((n / 32 % 100 : Nat) : Int) 1, (addO (keyT (upT v.2.1 (fj v.1) ((n / 4 % 4 : Nat) : Int) ((n / 16 % 100 : Nat) : Int) ((n / 32 % 100 : Nat) : Int) 1)) (fj v.1) (some v.2.2)).2) := by unfold dtn; rw [if_pos ⟨by omega, by omega⟩]
      obtain ⟨q1, q2, q3⟩ := fj_spec (b := v.1) (by omega)
      refine w_aload_n F dX8_dayTurn_19 rfl rfl ?_
      refine w_iload_n F dX8_dayTurn_20 rfl ?_
      refine w_iconst F dX8_dayTurn_21 ?_
      refine w_idiv F dX8_dayTurn_22 (by omega) (by first | assumption | exact inR0 | exact (hR _ _ _).1 | (constructor <;> omega)) (by decide) (by decide) ?_
      refine w_iconst F dX8_dayTurn_23 ?_
      refine w_irem F dX8_dayTurn_24 (by omega) (by first | assumption | exact inR0 | exact (hR _ _ _).1 | (constructor <;> omega)) (by decide) (by decide) ?_
      refine w_top (z' := ((n / 4 % 4 : Nat) : Int)) (by omega) ?_
      refine w_iload_n F dX8_dayTurn_25 rfl ?_
      refine w_bipush F dX8_dayTurn_26 rfl ?_
      refine w_idiv F dX8_dayTurn_28 (by omega) (by first | assumption | exact inR0 | exact (hR _ _ _).1 | (constructor <;> omega)) (by decide) (by decide) ?_
      refine w_bipush F dX8_dayTurn_29 rfl ?_
      refine w_irem F dX8_dayTurn_31 (by omega) (by first | assumption | exact inR0 | exact (hR _ _ _).1 | (constructor <;> omega)) (by decide) (by decide) ?_
      refine w_top (z' := ((n / 16 % 100 : Nat) : Int)) (by omega) ?_
      refine w_iload_n F dX8_dayTurn_32 rfl ?_
      refine w_bipush F dX8_dayTurn_33 rfl ?_
      refine w_idiv F dX8_dayTurn_35 (by omega) (by first | assumption | exact inR0 | exact (hR _ _ _).1 | (constructor <;> omega)) (by decide) (by decide) ?_
      refine w_bipush F dX8_dayTurn_36 rfl ?_
      refine w_irem F dX8_dayTurn_38 (by omega) (by first | assumption | exact inR0 | exact (hR _ _ _).1 | (constructor <;> omega)) (by decide) (by decide) ?_
      refine w_top (z' := ((n / 32 % 100 : Nat) : Int)) (by omega) ?_
      refine w_iconst F dX8_dayTurn_39 ?_
      refine w_callV F (As := [_, _, _, _]) (ct_comes hE hm γ (ot := some v.2.2) hV.1 ⟨hM, hV.2.1⟩ q1 q2 q3 (k := ((n / 4 % 4 : Nat) : Int)) (s := ((n / 16 % 100 : Nat) : Int)) (d := ((n / 32 % 100 : Nat) : Int)) (ln := 1) (by omega) (by omega) (by omega) (by omega) hlv) (lw_V q826 q828 qs35 q88 q829) md_X8_comes (by omega) cell_mdO rfl rfl rfl rfl (Nat.le_of_ble_eq_true rfl) dX8_dayTurn_40 ⟨by omega, by omega⟩ ⟨by omega, by omega⟩ ?_
      rintro _ g ⟨rfl, k1, k2, k3⟩
      refine w_pop F dX8_dayTurn_43 rfl ?_
      refine w_goto F (tgt := 90) dX8_dayTurn_44 (by decide) ?_
      exact w_vret F (by omega) (by omega) (⟨rfl, by rw [e]; exact k1, by rw [e]; exact k2, k3⟩) dX8_dayTurn_90
end M25
