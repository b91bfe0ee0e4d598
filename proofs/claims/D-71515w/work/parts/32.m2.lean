/-! the model: nodes -/
def lfM (γ : GG) (x j : Nat) : GG := gu (gu (gu (gu (gu γ 0 6 x (-1)) 0 7 x (-1)) 0 8 x j) 0 9 x (γ 0 2 j)) 0 10 x j
/-- the node above x among the first n, the last such one; none: -4 -/
def abv (σ : Nat → Nat → Int) (x : Int) : Nat → Int
  | 0 => -4
  | n + 1 => if 0 ≤ σ 6 n ∧ (σ 6 n = x ∨ σ 7 n = x) then n else abv σ x n
theorem abv_in (σ : Nat → Nat → Int) (x : Int) : ∀ n, -4 ≤ abv σ x n ∧ abv σ x n < n
  | 0 => by simp [abv]
  | n + 1 => by
    have := abv_in σ x n
    unfold abv
    split <;> omega
def lfo (σ : Nat → Nat → Int) (j : Int) : Nat → Int
  | 0 => -4
  | n + 1 => if σ 6 n = -1 ∧ σ 8 n = j then n else lfo σ j n
theorem lfo_in (σ : Nat → Nat → Int) (x : Int) : ∀ n, -4 ≤ lfo σ x n ∧ lfo σ x n < n
  | 0 => by simp [lfo]
  | n + 1 => by
    have := lfo_in σ x n
    unfold lfo
    split <;> omega
/-- the nodes above x, the nearest first -/
def Anc (σ : Nat → Nat → Int) : Nat → List Nat → Prop
  | x, [] => abv σ x 24 = -4
  | x, y :: r => abv σ x 24 = y ∧ Anc σ y r
section M2
variable {l : Launch} {E : EE}
theorem ct_becomesLeaf (hE : EOk E) (hm : 438 ≤ E.nk) (γ : GG) {x j : Nat} (hx : x < 24) (hj : j < 12) : Ct l yX8_becomesLeaf cX8_becomesLeaf 3 none E 100 16000 [.ref (E.ad 414), .int (iI (x : Int)), .int (iI (j : Int))] γ (pV (lfM γ x j)) 0 0 := by
  refine Ct.of hE (by decide) (Nat.le_of_ble_eq_true rfl) (fun Φ hLn hΦ F hfr hlo => ?_)
  subst hLn; subst hΦ
  have h414 := F.ok.1.2.2
  have hrc := F.rc
  have hrs := F.rs
  show Wg Φ 3 _ 0 0 0 [(0, _), (1, _), (2, _)] []
  refine w_rng (fun hR => ?_)
  have hs := (hR 0 2 j).1
  refine w_aload_n F dX8_becomesLeaf_0 rfl rfl ?_
  refine w_get F (by omega) cell_mdO rfl in_X8 6 (by decide) (Or.inl q878) rfl dX8_becomesLeaf_1 ?_
  refine w_iload_n F dX8_becomesLeaf_4 rfl ?_
  refine w_iconst F dX8_becomesLeaf_5 ?_
  first | refine w_iastN F (aM6 _) (by omega) (by decide) rfl rfl (by first | assumption | exact inR0 | exact (hR _ _ _).1 | (constructor <;> omega)) (by omega) dX8_becomesLeaf_6 ?_ | refine w_iast F (aM6 _) (by omega) (by decide) rfl rfl (by first | assumption | exact inR0 | exact (hR _ _ _).1 | (constructor <;> omega)) (by omega) (by omega) dX8_becomesLeaf_6 ?_
  refine w_aload_n F dX8_becomesLeaf_7 rfl rfl ?_
  refine w_get F (by omega) cell_mdO rfl in_X8 7 (by decide) (Or.inl q879) rfl dX8_becomesLeaf_8 ?_
  refine w_iload_n F dX8_becomesLeaf_11 rfl ?_
  refine w_iconst F dX8_becomesLeaf_12 ?_
  first | refine w_iastN F (aM7 _) (by omega) (by decide) rfl rfl (by first | assumption | exact inR0 | exact (hR _ _ _).1 | (constructor <;> omega)) (by omega) dX8_becomesLeaf_13 ?_ | refine w_iast F (aM7 _) (by omega) (by decide) rfl rfl (by first | assumption | exact inR0 | exact (hR _ _ _).1 | (constructor <;> omega)) (by omega) (by omega) dX8_becomesLeaf_13 ?_
  refine w_aload_n F dX8_becomesLeaf_14 rfl rfl ?_
  refine w_get F (by omega) cell_mdO rfl in_X8 8 (by decide) (Or.inl q880) rfl dX8_becomesLeaf_15 ?_
  refine w_iload_n F dX8_becomesLeaf_18 rfl ?_
  refine w_iload_n F dX8_becomesLeaf_19 rfl ?_
  first | refine w_iastN F (aM8 _) (by omega) (by decide) rfl rfl (by first | assumption | exact inR0 | exact (hR _ _ _).1 | (constructor <;> omega)) (by omega) dX8_becomesLeaf_20 ?_ | refine w_iast F (aM8 _) (by omega) (by decide) rfl rfl (by first | assumption | exact inR0 | exact (hR _ _ _).1 | (constructor <;> omega)) (by omega) (by omega) dX8_becomesLeaf_20 ?_
  refine w_aload_n F dX8_becomesLeaf_21 rfl rfl ?_
  refine w_get F (by omega) cell_mdO rfl in_X8 9 (by decide) (Or.inl q881) rfl dX8_becomesLeaf_22 ?_
  refine w_iload_n F dX8_becomesLeaf_25 rfl ?_
  refine w_aload_n F dX8_becomesLeaf_26 rfl rfl ?_
  refine w_get F (by omega) cell_mdO rfl in_X8 2 (by decide) (Or.inl q874) rfl dX8_becomesLeaf_27 ?_
  refine w_iload_n F dX8_becomesLeaf_30 rfl ?_
  first | refine w_ialdN F (aM2 _) (by omega) (by decide) (by omega) dX8_becomesLeaf_31 ?_ | refine w_iald F (aM2 _) (by omega) (by decide) (by omega) (by omega) dX8_becomesLeaf_31 ?_
  refine w_top (z' := γ 0 2 j) (by simp [gu]) ?_
  first | refine w_iastN F (aM9 _) (by omega) (by decide) rfl rfl (by first | assumption | exact inR0 | exact (hR _ _ _).1 | (constructor <;> omega)) (by omega) dX8_becomesLeaf_32 ?_ | refine w_iast F (aM9 _) (by omega) (by decide) rfl rfl (by first | assumption | exact inR0 | exact (hR _ _ _).1 | (constructor <;> omega)) (by omega) (by omega) dX8_becomesLeaf_32 ?_
  refine w_aload_n F dX8_becomesLeaf_33 rfl rfl ?_
  refine w_get F (by omega) cell_mdO rfl in_X8 10 (by decide) (Or.inl q882) rfl dX8_becomesLeaf_34 ?_
  refine w_iload_n F dX8_becomesLeaf_37 rfl ?_
  refine w_iload_n F dX8_becomesLeaf_38 rfl ?_
  first | refine w_iastN F (aM10 _) (by omega) (by decide) rfl rfl (by first | assumption | exact inR0 | exact (hR _ _ _).1 | (constructor <;> omega)) (by omega) dX8_becomesLeaf_39 ?_ | refine w_iast F (aM10 _) (by omega) (by decide) rfl rfl (by first | assumption | exact inR0 | exact (hR _ _ _).1 | (constructor <;> omega)) (by omega) (by omega) dX8_becomesLeaf_39 ?_
  exact w_vret F (by omega) (by omega) (⟨rfl, rfl⟩) dX8_becomesLeaf_40
theorem ct_newLeaf (hE : EOk E) (hm : 438 ≤ E.nk) (γ : GG) {j : Nat} (hj : j < 12) (hf : ∃ x, x < 24 ∧ γ 0 6 x = -2) : Ct l yX8_newLeaf cX8_newLeaf 3 (some .int) E 200 20000 [.ref (E.ad 414), .int (iI (j : Int))] γ (fun v g => ∃ x : Nat, x < 24 ∧ γ 0 6 x = -2 ∧ v = some (.int (iI (x : Int))) ∧ lfM γ x j = g) 0 0 := by
  refine Ct.of hE (by decide) (Nat.le_of_ble_eq_true rfl) (fun Φ hLn hΦ F hfr hlo => ?_)
  subst hLn; subst hΦ
  have h414 := F.ok.1.2.2
  have hrc := F.rc
  have hrs := F.rs
  show Wg Φ 3 _ 0 0 0 [(0, _), (1, _)] []
  refine w_rng (fun hR => ?_)
  obtain ⟨x0, hx0, hx1⟩ := hf
  refine w_iconst F dX8_newLeaf_0 ?_
  refine w_istore_n F dX8_newLeaf_1 (by decide) rfl (lv' := [(0, _), (1, _), (2, _)]) rfl ?_
  have loop : ∀ m x : Nat, x ≤ x0 → x0 - x ≤ m → Wg Φ 3 γ 0 0 2 [(0, .ref (Φ.E.ad 414)), (1, .int (iI (j : Int))), (2, .int (iI (x : Int)))] [] := by
    intro m
    induction m with
    | zero =>
      intro x h1 h2
      have e : x = x0 := by omega
      subst e
      refine w_aload_n F dX8_newLeaf_2 rfl rfl ?_
      refine w_get F (by omega) cell_mdO rfl in_X8 6 (by decide) (Or.inl q878) rfl dX8_newLeaf_3 ?_
      refine w_iload_n F dX8_newLeaf_6 rfl ?_
      first | refine w_ialdN F (aM6 _) (by omega) (by decide) (by omega) dX8_newLeaf_7 ?_ | refine w_iald F (aM6 _) (by omega) (by decide) (by omega) (by omega) dX8_newLeaf_7 ?_
      refine w_bipush F dX8_newLeaf_8 rfl ?_
      refine w_icmp_eq F (tgt := 19) dX8_newLeaf_10 (by decide) (by first | assumption | exact inR0 | exact (hR _ _ _).1 | (constructor <;> omega)) (by first | assumption | exact inR0 | exact (hR _ _ _).1 | (constructor <;> omega)) (fun h => ?_) (fun h => ?_)
      · refine w_aload_n F dX8_newLeaf_19 rfl rfl ?_
        refine w_iload_n F dX8_newLeaf_20 rfl ?_
        refine w_iload_n F dX8_newLeaf_21 rfl ?_
        refine w_callV F (As := [_, _]) (ct_becomesLeaf hE hm γ hx0 hj) (lw_V q837 q839 qs37 q88 q840) md_X8_becomesLeaf (by omega) cell_mdO rfl rfl rfl rfl (Nat.le_of_ble_eq_true rfl) dX8_newLeaf_22 ⟨by omega, by omega⟩ ⟨by omega, by omega⟩ ?_
        rintro _ _ ⟨rfl, rfl⟩
        refine w_iload_n F dX8_newLeaf_25 rfl ?_
        exact w_iret F (by omega) (by omega) (⟨x, hx0, hx1, rfl, rfl⟩) dX8_newLeaf_26
      · exact absurd hx1 h
    | succ m ih =>
      intro x h1 h2
      refine w_aload_n F dX8_newLeaf_2 rfl rfl ?_
      refine w_get F (by omega) cell_mdO rfl in_X8 6 (by decide) (Or.inl q878) rfl dX8_newLeaf_3 ?_
      refine w_iload_n F dX8_newLeaf_6 rfl ?_
      first | refine w_ialdN F (aM6 _) (by omega) (by decide) (by omega) dX8_newLeaf_7 ?_ | refine w_iald F (aM6 _) (by omega) (by decide) (by omega) (by omega) dX8_newLeaf_7 ?_
      refine w_bipush F dX8_newLeaf_8 rfl ?_
      refine w_icmp_eq F (tgt := 19) dX8_newLeaf_10 (by decide) (by first | assumption | exact inR0 | exact (hR _ _ _).1 | (constructor <;> omega)) (by first | assumption | exact inR0 | exact (hR _ _ _).1 | (constructor <;> omega)) (fun h => ?_) (fun h => ?_)
      · refine w_aload_n F dX8_newLeaf_19 rfl rfl ?_
        refine w_iload_n F dX8_newLeaf_20 rfl ?_
        refine w_iload_n F dX8_newLeaf_21 rfl ?_
        refine w_callV F (As := [_, _]) (ct_becomesLeaf hE hm γ (x := x) (by omega) hj) (lw_V q837 q839 qs37 q88 q840) md_X8_becomesLeaf (by omega) cell_mdO rfl rfl rfl rfl (Nat.le_of_ble_eq_true rfl) dX8_newLeaf_22 ⟨by omega, by omega⟩ ⟨by omega, by omega⟩ ?_
        rintro _ _ ⟨rfl, rfl⟩
        refine w_iload_n F dX8_newLeaf_25 rfl ?_
        exact w_iret F (by omega) (by omega) (⟨x, by omega, h, rfl, rfl⟩) dX8_newLeaf_26
      · have hne : x ≠ x0 := fun e => h (by rw [e]; exact hx1)
        refine w_iinc F dX8_newLeaf_13 rfl (by decide) rfl (lv' := [(0, _), (1, _), (2, _)]) rfl ?_
        refine w_goto F (tgt := 2) dX8_newLeaf_16 (by decide) ?_
        exact ih (x + 1) (by omega) (by omega)
  exact loop 24 0 (by omega) (by omega)
theorem ct_aboveOf (hE : EOk E) (hm : 438 ≤ E.nk) (γ : GG) {x : Int} (hx : InR x) : Ct l yX8_aboveOf cX8_aboveOf 4 (some .int) E 100 16000 [.ref (E.ad 414), .int (iI x)] γ (pI (abv (γ 0) x 24) γ) 0 0 := by
  refine Ct.of hE (by decide) (Nat.le_of_ble_eq_true rfl) (fun Φ hLn hΦ F hfr hlo => ?_)
  subst hLn; subst hΦ
  have h414 := F.ok.1.2.2
  have hrc := F.rc
  have hrs := F.rs
  show Wg Φ 4 _ 0 0 0 [(0, _), (1, _)] []
  refine w_rng (fun hR => ?_)
  refine w_bipush F dX8_aboveOf_0 rfl ?_
  refine w_istore_n F dX8_aboveOf_2 (by decide) rfl (lv' := [(0, _), (1, _), (2, _)]) rfl ?_
  refine w_iconst F dX8_aboveOf_3 ?_
  refine w_istore_n F dX8_aboveOf_4 (by decide) rfl (lv' := [(0, _), (1, _), (2, _), (3, _)]) rfl ?_
  have loop : ∀ m y : Nat, y ≤ 24 → 24 - y ≤ m → Wg Φ 4 γ 0 0 5 [(0, .ref (Φ.E.ad 414)), (1, .int (iI x)), (2, .int (iI (abv (γ 0) x y))), (3, .int (iI (y : Int)))] [] := by
    intro m
    induction m with
    | zero =>
      intro y h1 h2
      refine w_iload_n F dX8_aboveOf_5 rfl ?_
      refine w_bipush F dX8_aboveOf_6 rfl ?_
      refine w_icmp_ge F (tgt := 52) dX8_aboveOf_8 (by decide) (by first | assumption | exact inR0 | exact (hR _ _ _).1 | (constructor <;> omega)) (by first | assumption | exact inR0 | exact (hR _ _ _).1 | (constructor <;> omega)) (fun h => ?_) (fun h => ?_)
      · refine w_iload_n F dX8_aboveOf_52 rfl ?_
        exact w_iret F (by omega) (by omega) (⟨by rw [show y = 24 by omega], rfl⟩) dX8_aboveOf_53
      · omega
    | succ m ih =>
      intro y h1 h2
      refine w_iload_n F dX8_aboveOf_5 rfl ?_
      refine w_bipush F dX8_aboveOf_6 rfl ?_
      refine w_icmp_ge F (tgt := 52) dX8_aboveOf_8 (by decide) (by first | assumption | exact inR0 | exact (hR _ _ _).1 | (constructor <;> omega)) (by first | assumption | exact inR0 | exact (hR _ _ _).1 | (constructor <;> omega)) (fun h => ?_) (fun h => ?_)
      · refine w_iload_n F dX8_aboveOf_52 rfl ?_
        exact w_iret F (by omega) (by omega) (⟨by rw [show y = 24 by omega], rfl⟩) dX8_aboveOf_53
      · have hn : ¬ (0 ≤ γ 0 6 y ∧ (γ 0 6 y = x ∨ γ 0 7 y = x)) → abv (γ 0) x (y + 1) = abv (γ 0) x y := fun q => if_neg q
        have hp : (0 ≤ γ 0 6 y ∧ (γ 0 6 y = x ∨ γ 0 7 y = x)) → abv (γ 0) x (y + 1) = (y : Int) := fun q => if_pos q
        have ih := ih (y + 1) (by omega) (by omega)
        refine w_aload_n F dX8_aboveOf_11 rfl rfl ?_
        refine w_get F (by omega) cell_mdO rfl in_X8 6 (by decide) (Or.inl q878) rfl dX8_aboveOf_12 ?_
        refine w_iload_n F dX8_aboveOf_15 rfl ?_
        first | refine w_ialdN F (aM6 _) (by omega) (by decide) (by omega) dX8_aboveOf_16 ?_ | refine w_iald F (aM6 _) (by omega) (by decide) (by omega) (by omega) dX8_aboveOf_16 ?_
        refine w_if_lt F (tgt := 44) dX8_aboveOf_17 (by decide) (by first | assumption | exact inR0 | exact (hR _ _ _).1 | (constructor <;> omega)) (fun h3 => ?_) (fun h3 => ?_)
        · refine w_iload_n F dX8_aboveOf_44 rfl ?_
          refine w_istore_n F dX8_aboveOf_45 (by decide) rfl (lv' := [(0, _), (1, _), (2, _), (3, _)]) rfl ?_
          refine w_iinc F dX8_aboveOf_46 rfl (by decide) rfl (lv' := [(0, _), (1, _), (2, _), (3, _)]) rfl ?_
          refine w_goto F (tgt := 5) dX8_aboveOf_49 (by decide) ?_
          rw [hn (by omega)] at ih
          exact ih
        · refine w_aload_n F dX8_aboveOf_20 rfl rfl ?_
          refine w_get F (by omega) cell_mdO rfl in_X8 6 (by decide) (Or.inl q878) rfl dX8_aboveOf_21 ?_
          refine w_iload_n F dX8_aboveOf_24 rfl ?_
          first | refine w_ialdN F (aM6 _) (by omega) (by decide) (by omega) dX8_aboveOf_25 ?_ | refine w_iald F (aM6 _) (by omega) (by decide) (by omega) (by omega) dX8_aboveOf_25 ?_
          refine w_iload_n F dX8_aboveOf_26 rfl ?_
          refine w_icmp_eq F (tgt := 40) dX8_aboveOf_27 (by decide) (by first | assumption | exact inR0 | exact (hR _ _ _).1 | (constructor <;> omega)) (by first | assumption | exact inR0 | exact (hR _ _ _).1 | (constructor <;> omega)) (fun h4 => ?_) (fun h4 => ?_)
          · refine w_iload_n F dX8_aboveOf_40 rfl ?_
            refine w_goto F (tgt := 45) dX8_aboveOf_41 (by decide) ?_
            refine w_istore_n F dX8_aboveOf_45 (by decide) rfl (lv' := [(0, _), (1, _), (2, _), (3, _)]) rfl ?_
            refine w_iinc F dX8_aboveOf_46 rfl (by decide) rfl (lv' := [(0, _), (1, _), (2, _), (3, _)]) rfl ?_
            refine w_goto F (tgt := 5) dX8_aboveOf_49 (by decide) ?_
            rw [hp (by omega)] at ih
            exact ih
          · refine w_aload_n F dX8_aboveOf_30 rfl rfl ?_
            refine w_get F (by omega) cell_mdO rfl in_X8 7 (by decide) (Or.inl q879) rfl dX8_aboveOf_31 ?_
            refine w_iload_n F dX8_aboveOf_34 rfl ?_
            first | refine w_ialdN F (aM7 _) (by omega) (by decide) (by omega) dX8_aboveOf_35 ?_ | refine w_iald F (aM7 _) (by omega) (by decide) (by omega) (by omega) dX8_aboveOf_35 ?_
            refine w_iload_n F dX8_aboveOf_36 rfl ?_
            refine w_icmp_ne F (tgt := 44) dX8_aboveOf_37 (by decide) (by first | assumption | exact inR0 | exact (hR _ _ _).1 | (constructor <;> omega)) (by first | assumption | exact inR0 | exact (hR _ _ _).1 | (constructor <;> omega)) (fun h5 => ?_) (fun h5 => ?_)
            · refine w_iload_n F dX8_aboveOf_44 rfl ?_
              refine w_istore_n F dX8_aboveOf_45 (by decide) rfl (lv' := [(0, _), (1, _), (2, _), (3, _)]) rfl ?_
              refine w_iinc F dX8_aboveOf_46 rfl (by decide) rfl (lv' := [(0, _), (1, _), (2, _), (3, _)]) rfl ?_
              refine w_goto F (tgt := 5) dX8_aboveOf_49 (by decide) ?_
              rw [hn (by omega)] at ih
              exact ih
            · refine w_iload_n F dX8_aboveOf_40 rfl ?_
              refine w_goto F (tgt := 45) dX8_aboveOf_41 (by decide) ?_
              refine w_istore_n F dX8_aboveOf_45 (by decide) rfl (lv' := [(0, _), (1, _), (2, _), (3, _)]) rfl ?_
              refine w_iinc F dX8_aboveOf_46 rfl (by decide) rfl (lv' := [(0, _), (1, _), (2, _), (3, _)]) rfl ?_
              refine w_goto F (tgt := 5) dX8_aboveOf_49 (by decide) ?_
              rw [hp (by omega)] at ih
              exact ih
  exact loop 24 0 (by omega) (by omega)
theorem ct_leafOf (hE : EOk E) (hm : 438 ≤ E.nk) (γ : GG) {j : Int} (hj : InR j) : Ct l yX8_leafOf cX8_leafOf 4 (some .int) E 200 20000 [.ref (E.ad 414), .int (iI j)] γ (pI (lfo (γ 0) j 24) γ) 0 0 := by
  refine Ct.of hE (by decide) (Nat.le_of_ble_eq_true rfl) (fun Φ hLn hΦ F hfr hlo => ?_)
  subst hLn; subst hΦ
  have h414 := F.ok.1.2.2
  have hrc := F.rc
  have hrs := F.rs
  show Wg Φ 4 _ 0 0 0 [(0, _), (1, _)] []
  refine w_rng (fun hR => ?_)
  refine w_bipush F dX8_leafOf_0 rfl ?_
  refine w_istore_n F dX8_leafOf_2 (by decide) rfl (lv' := [(0, _), (1, _), (2, _)]) rfl ?_
  refine w_iconst F dX8_leafOf_3 ?_
  refine w_istore_n F dX8_leafOf_4 (by decide) rfl (lv' := [(0, _), (1, _), (2, _), (3, _)]) rfl ?_
  have loop : ∀ m y : Nat, y ≤ 24 → 24 - y ≤ m → Wg Φ 4 γ 0 0 5 [(0, .ref (Φ.E.ad 414)), (1, .int (iI j)), (2, .int (iI (lfo (γ 0) j y))), (3, .int (iI (y : Int)))] [] := by
    intro m
    induction m with
    | zero =>
      intro y h1 h2
      refine w_iload_n F dX8_leafOf_5 rfl ?_
      refine w_bipush F dX8_leafOf_6 rfl ?_
      refine w_icmp_ge F (tgt := 41) dX8_leafOf_8 (by decide) (by first | assumption | exact inR0 | exact (hR _ _ _).1 | (constructor <;> omega)) (by first | assumption | exact inR0 | exact (hR _ _ _).1 | (constructor <;> omega)) (fun h => ?_) (fun h => ?_)
      · refine w_iload_n F dX8_leafOf_41 rfl ?_
        exact w_iret F (by omega) (by omega) (⟨by rw [show y = 24 by omega], rfl⟩) dX8_leafOf_42
      · omega
    | succ m ih =>
      intro y h1 h2
      refine w_iload_n F dX8_leafOf_5 rfl ?_
      refine w_bipush F dX8_leafOf_6 rfl ?_
      refine w_icmp_ge F (tgt := 41) dX8_leafOf_8 (by decide) (by first | assumption | exact inR0 | exact (hR _ _ _).1 | (constructor <;> omega)) (by first | assumption | exact inR0 | exact (hR _ _ _).1 | (constructor <;> omega)) (fun h => ?_) (fun h => ?_)
      · refine w_iload_n F dX8_leafOf_41 rfl ?_
        exact w_iret F (by omega) (by omega) (⟨by rw [show y = 24 by omega], rfl⟩) dX8_leafOf_42
      · have hn : ¬ (γ 0 6 y = -1 ∧ γ 0 8 y = j) → lfo (γ 0) j (y + 1) = lfo (γ 0) j y := fun q => if_neg q
        have hp : (γ 0 6 y = -1 ∧ γ 0 8 y = j) → lfo (γ 0) j (y + 1) = (y : Int) := fun q => if_pos q
        have ih := ih (y + 1) (by omega) (by omega)
        refine w_aload_n F dX8_leafOf_11 rfl rfl ?_
        refine w_iload_n F dX8_leafOf_12 rfl ?_
        refine w_callV F (As := [_]) (ct_isLeaf hE hm γ (x := y) (by omega)) (lw_V q841 q843 qs38 q88 q844) md_X8_isLeaf (by omega) cell_mdO rfl rfl rfl rfl (Nat.le_of_ble_eq_true rfl) dX8_leafOf_13 ⟨by omega, by omega⟩ ⟨by omega, by omega⟩ ?_
        rintro _ _ ⟨rfl, rfl⟩
        refine w_if_eq F (tgt := 33) dX8_leafOf_16 (by decide) (b2i_R _) (fun h3 => ?_) (fun h3 => ?_)
        · rw [b2i_0] at h3
          refine w_iload_n F dX8_leafOf_33 rfl ?_
          refine w_istore_n F dX8_leafOf_34 (by decide) rfl (lv' := [(0, _), (1, _), (2, _), (3, _)]) rfl ?_
          refine w_iinc F dX8_leafOf_35 rfl (by decide) rfl (lv' := [(0, _), (1, _), (2, _), (3, _)]) rfl ?_
          refine w_goto F (tgt := 5) dX8_leafOf_38 (by decide) ?_
          rw [hn (by omega)] at ih
          exact ih
        · rw [b2i_n0] at h3
          refine w_aload_n F dX8_leafOf_19 rfl rfl ?_
          refine w_get F (by omega) cell_mdO rfl in_X8 8 (by decide) (Or.inl q880) rfl dX8_leafOf_20 ?_
          refine w_iload_n F dX8_leafOf_23 rfl ?_
          first | refine w_ialdN F (aM8 _) (by omega) (by decide) (by omega) dX8_leafOf_24 ?_ | refine w_iald F (aM8 _) (by omega) (by decide) (by omega) (by omega) dX8_leafOf_24 ?_
          refine w_iload_n F dX8_leafOf_25 rfl ?_
          refine w_icmp_ne F (tgt := 33) dX8_leafOf_26 (by decide) (by first | assumption | exact inR0 | exact (hR _ _ _).1 | (constructor <;> omega)) (by first | assumption | exact inR0 | exact (hR _ _ _).1 | (constructor <;> omega)) (fun h4 => ?_) (fun h4 => ?_)
          · refine w_iload_n F dX8_leafOf_33 rfl ?_
            refine w_istore_n F dX8_leafOf_34 (by decide) rfl (lv' := [(0, _), (1, _), (2, _), (3, _)]) rfl ?_
            refine w_iinc F dX8_leafOf_35 rfl (by decide) rfl (lv' := [(0, _), (1, _), (2, _), (3, _)]) rfl ?_
            refine w_goto F (tgt := 5) dX8_leafOf_38 (by decide) ?_
            rw [hn (by omega)] at ih
            exact ih
          · refine w_iload_n F dX8_leafOf_29 rfl ?_
            refine w_goto F (tgt := 34) dX8_leafOf_30 (by decide) ?_
            refine w_istore_n F dX8_leafOf_34 (by decide) rfl (lv' := [(0, _), (1, _), (2, _), (3, _)]) rfl ?_
            refine w_iinc F dX8_leafOf_35 rfl (by decide) rfl (lv' := [(0, _), (1, _), (2, _), (3, _)]) rfl ?_
            refine w_goto F (tgt := 5) dX8_leafOf_38 (by decide) ?_
            rw [hp (by omega)] at ih
            exact ih
  exact loop 24 0 (by omega) (by omega)
theorem ct_deepOf (hE : EOk E) (hm : 438 ≤ E.nk) (γ : GG) {x : Nat} (hx : x < 24) {r : List Nat} (hr : Anc (γ 0) x r) (hlen : r.length ≤ 24) : Ct l yX8_deepOf cX8_deepOf 4 (some .int) E 200 20000 [.ref (E.ad 414), .int (iI (x : Int))] γ (pI (r.length : Int) γ) 0 0 := by
  refine Ct.of hE (by decide) (Nat.le_of_ble_eq_true rfl) (fun Φ hLn hΦ F hfr hlo => ?_)
  subst hLn; subst hΦ
  have h414 := F.ok.1.2.2
  have hrc := F.rc
  have hrs := F.rs
  show Wg Φ 4 _ 0 0 0 [(0, _), (1, _)] []
  refine w_rng (fun hR => ?_)
  have a0 := abv_in (γ 0) x 24
  refine w_iconst F dX8_deepOf_0 ?_
  refine w_istore_n F dX8_deepOf_1 (by decide) rfl (lv' := [(0, _), (1, _), (2, _)]) rfl ?_
  refine w_aload_n F dX8_deepOf_2 rfl rfl ?_
  refine w_iload_n F dX8_deepOf_3 rfl ?_
  refine w_callV F (As := [_]) (ct_aboveOf hE hm γ (x := (x : Int)) (by constructor <;> omega)) (lw_V q852 q854 qs40 q88 q855) md_X8_aboveOf (by omega) cell_mdO rfl rfl rfl rfl (Nat.le_of_ble_eq_true rfl) dX8_deepOf_4 ⟨by omega, by omega⟩ ⟨by omega, by omega⟩ ?_
  rintro _ _ ⟨rfl, rfl⟩
  refine w_istore_n F dX8_deepOf_7 (by decide) rfl (lv' := [(0, _), (1, _), (2, _), (3, _)]) rfl ?_
  have loop : ∀ (r2 : List Nat) (y n : Nat), Anc (γ 0) y r2 → n + r2.length = r.length → Wg Φ 4 γ 0 0 8 [(0, .ref (Φ.E.ad 414)), (1, .int (iI (x : Int))), (2, .int (iI (n : Int))), (3, .int (iI (abv (γ 0) y 24)))] [] := by
    intro r2
    induction r2 with
    | nil =>
      intro y n h1 h2
      have h3 : abv (γ 0) y 24 = -4 := h1
      rw [h3]
      refine w_iload_n F dX8_deepOf_8 rfl ?_
      refine w_bipush F dX8_deepOf_9 rfl ?_
      refine w_icmp_eq F (tgt := 26) dX8_deepOf_11 (by decide) (by first | assumption | exact inR0 | exact (hR _ _ _).1 | (constructor <;> omega)) (by first | assumption | exact inR0 | exact (hR _ _ _).1 | (constructor <;> omega)) (fun h => ?_) (fun h => ?_)
      · refine w_iload_n F dX8_deepOf_26 rfl ?_
        exact w_iret F (by omega) (by omega) (⟨by rw [show n = r.length from h2], rfl⟩) dX8_deepOf_27
      · exact absurd rfl h
    | cons z r2 ih =>
      intro y n h1 h2
      have h3 : abv (γ 0) y 24 = z := h1.1
      have a1 := abv_in (γ 0) y 24
      rw [h3]
      simp at h2
      refine w_iload_n F dX8_deepOf_8 rfl ?_
      refine w_bipush F dX8_deepOf_9 rfl ?_
      refine w_icmp_eq F (tgt := 26) dX8_deepOf_11 (by decide) (by first | assumption | exact inR0 | exact (hR _ _ _).1 | (constructor <;> omega)) (by first | assumption | exact inR0 | exact (hR _ _ _).1 | (constructor <;> omega)) (fun h => ?_) (fun h => ?_)
      · omega
      · refine w_iinc F dX8_deepOf_14 rfl (by decide) rfl (lv' := [(0, _), (1, _), (2, _), (3, _)]) rfl ?_
        refine w_aload_n F dX8_deepOf_17 rfl rfl ?_
        refine w_iload_n F dX8_deepOf_18 rfl ?_
        refine w_callV F (As := [_]) (ct_aboveOf hE hm γ (x := (z : Int)) (by constructor <;> omega)) (lw_V q852 q854 qs40 q88 q855) md_X8_aboveOf (by omega) cell_mdO rfl rfl rfl rfl (Nat.le_of_ble_eq_true rfl) dX8_deepOf_19 ⟨by omega, by omega⟩ ⟨by omega, by omega⟩ ?_
        rintro _ _ ⟨rfl, rfl⟩
        refine w_istore_n F dX8_deepOf_22 (by decide) rfl (lv' := [(0, _), (1, _), (2, _), (3, _)]) rfl ?_
        refine w_goto F (tgt := 8) dX8_deepOf_23 (by decide) ?_
        exact ih z (n + 1) h1.2 (by omega)
  exact loop r x 0 hr (by omega)
end M2
