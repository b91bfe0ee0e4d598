/-! the model's acts -/
def frj (b : Nat) : Nat → Nat → Nat
  | 0, j => j
  | n + 1, j => if b.testBit j = true then frj b n (j + 1) else j
/-- the first free job -/
def fj (b : Nat) : Nat := frj b 12 0
theorem frj_spec (b : Nat) : ∀ n j, cnt b (j + n) < j + n ∨ (∃ i, j ≤ i ∧ i < j + n ∧ b.testBit i = false) → (∃ i, j ≤ i ∧ i < j + n ∧ b.testBit i = false) → j ≤ frj b n j ∧ frj b n j < j + n ∧ b.testBit (frj b n j) = false ∧ ∀ i, j ≤ i → i < frj b n j → b.testBit i = true
  | 0, j, _, h => by obtain ⟨i, h1, h2, _⟩ := h; omega
  | n + 1, j, _, h => by
    unfold frj
    by_cases e : b.testBit j = true
    · rw [if_pos e]
      obtain ⟨i, h1, h2, h3⟩ := h
      have hne : i ≠ j := fun q => by rw [q, e] at h3; cases h3
      have hx : ∃ i, j + 1 ≤ i ∧ i < j + 1 + n ∧ b.testBit i = false := ⟨i, by omega, by omega, h3⟩
      obtain ⟨a1, a2, a3, a4⟩ := frj_spec b n (j + 1) (Or.inr hx) hx
      refine ⟨by omega, by omega, a3, fun q h4 h5 => ?_⟩
      by_cases e2 : q = j
      · rw [e2]; exact e
      · exact a4 q (by omega) h5
    · rw [if_neg e]
      exact ⟨by omega, by omega, by simpa using e, fun q h4 h5 => by omega⟩
theorem cnt_all (b : Nat) : ∀ n, (∀ i, i < n → b.testBit i = true) → cnt b n = n
  | 0, _ => rfl
  | n + 1, h => by
    show cnt b n + _ = _
    rw [cnt_all b n (fun i hi => h i (by omega)), h n (by omega)]
    rfl
theorem fj_spec {b : Nat} (h : cnt b 12 ≠ 12) : fj b < 12 ∧ b.testBit (fj b) = false ∧ ∀ i, i < fj b → b.testBit i = true := by
  have hx : ∃ i, 0 ≤ i ∧ i < 0 + 12 ∧ b.testBit i = false := by
    refine Classical.byContradiction (fun hn => h (cnt_all b 12 (fun i hi => ?_)))
    cases e : b.testBit i with
    | true => rfl
    | false => exact absurd ⟨i, by omega, by omega, e⟩ hn
  obtain ⟨_, a2, a3, a4⟩ := frj_spec b 12 0 (Or.inr hx) hx
  exact ⟨by unfold fj; omega, a3, fun i hi => a4 i (by omega) hi⟩
abbrev offA : List Nat := [0, 1, 2, 3, 4, 5, 6, 7, 8, 9, 10, 11, 12, 13, 14, 15, 16, 17, 18, 19, 20, 21, 22, 23, 24, 25, 26]
def VOk (v : VV) : Prop := JOk v.1 v.2.1 ∧ TOk v.1 v.2.2 ∧ OrdT (keyT v.2.1) v.2.2
def addV (v : VV) (k s d l : Int) : VV := (v.1 ||| 2 ^ fj v.1, upT v.2.1 (fj v.1) k s d l, (levT (keyT (upT v.2.1 (fj v.1) k s d l)) (keyT (upT v.2.1 (fj v.1) k s d l) (fj v.1)) (insT (keyT (upT v.2.1 (fj v.1) k s d l)) (fj v.1) v.2.2)).1)
def cutV (v : VV) (j : Nat) : VV := (v.1 ^^^ (v.1 &&& 2 ^ j), v.2.1, (cutT (keyT v.2.1) (keyT v.2.1 j) v.2.2).1)
def upD (T : Nat → Nat → Int) (j : Nat) (d : Int) : Nat → Nat → Int := fun f i => if f = 3 ∧ i = j then d else T f i
def told (k s d l : Int) : Prop := (0 ≤ k ∧ k ≤ 3) ∧ (0 ≤ s ∧ s ≤ 99) ∧ (0 ≤ d ∧ d ≤ 99) ∧ (1 ≤ l ∧ l ≤ 9)
theorem lev_n (κ : Nat → Nat) (k : Nat) : ∀ t, (levT κ k t).2 ≤ 1
  | .leaf _ => by simp [levT]
  | .branch s a b => by
    have h1 := lev_n κ k a
    have h2 := lev_n κ k b
    unfold levT
    split
    · simp
    · split <;> simp [h1, h2]
theorem cut_n (κ : Nat → Nat) (k : Nat) : ∀ t, (cutT κ k t).2 ≤ 1
  | .leaf _ => by simp [cutT]
  | .branch s a b => by
    have h1 := cut_n κ k a
    have h2 := cut_n κ k b
    unfold cutT
    split
    · split
      · simp
      · split <;> simp [h1]
    · split
      · simp
      · split <;> simp [h2]
theorem MF.off {σ : Nat → Nat → Int} {γ g : GG} {Lb Lc : Int} {v w : VV} {vu vk : List VV} {fs : List Nat} (h : MF (γ 0) Lb v vu vk) (o : Off0 fs γ g) (hf : (fs.contains 19 || fs.contains 20 || fs.contains 21 || fs.contains 22) = false) (hl : Lb ≤ Lc) (hv : MV (g 0) w.1 w.2.1 w.2.2) (hb : w.1 < 4096) (h11 : 0 ≤ g 0 11 0 ∧ g 0 11 0 ≤ Lc) : MF (g 0) Lc w vu vk := by
  simp only [Bool.or_eq_false_iff] at hf
  obtain ⟨f1, f2, f3, f4, f5, f6, f7, f8, f9⟩ := h
  exact ⟨hv, h11, hb, by rw [o.f 20 hf.1.1.2]; exact f4, f5, by rw [o.f 19 hf.1.1.1]; exact f6.mono hl, by rw [o.f 22 hf.2]; exact f7, f8, by rw [o.f 21 hf.1.2]; exact f9.mono hl⟩
theorem MF.mono {σ : Nat → Nat → Int} {Lb Lc : Int} {v : VV} {vu vk : List VV} (h : MF σ Lb v vu vk) (hl : Lb ≤ Lc) : MF σ Lc v vu vk := ⟨h.1, ⟨h.2.1.1, Int.le_trans h.2.1.2 hl⟩, h.2.2.1, h.2.2.2.1, h.2.2.2.2.1, h.2.2.2.2.2.1.mono hl, h.2.2.2.2.2.2.1, h.2.2.2.2.2.2.2.1, h.2.2.2.2.2.2.2.2.mono hl⟩
section M14
variable {l : Launch} {E : EE}
theorem ct_isTold (hE : EOk E) (γ : GG) {k s d ln : Int} (hk : InR k) (hs : InR s) (hd : InR d) (hln : InR ln) [Decidable (told k s d ln)] : Ct l yX8_isTold cX8_isTold 4 (some .boolean) E 200 20000 [.int (iI k), .int (iI s), .int (iI d), .int (iI ln)] γ (pI (b2i (told k s d ln)) γ) 0 0 := by
  refine Ct.of hE (by decide) (Nat.le_of_ble_eq_true rfl) (fun Φ hLn hΦ F hfr hlo => ?_)
  subst hLn; subst hΦ
  have h414 := F.ok.1.2.2
  have hrc := F.rc
  have hrs := F.rs
  show Wg Φ 4 _ 0 0 0 [(0, _), (1, _), (2, _), (3, _)] []
  refine w_rng (fun hR => ?_)
  refine w_iload_n F dX8_isTold_0 rfl ?_
  refine w_iconst F dX8_isTold_1 ?_
  refine w_iconst F dX8_isTold_2 ?_
  refine w_callS F (As := [_, _, _]) (ct_in hE γ hk inR0 (by decide)) (lw_S q980 q981 q88 q982) md_X8_in rfl rfl (Nat.le_of_ble_eq_true rfl) dX8_isTold_3 ⟨by omega, by omega⟩ ⟨by omega, by omega⟩ ?_
  rintro _ _ ⟨rfl, rfl⟩
  refine w_if_eq F (tgt := 43) dX8_isTold_6 (by decide) (b2i_R _) (fun h => ?_) (fun h => ?_)
  · rw [b2i_0] at h
    refine w_iconst F dX8_isTold_43 ?_
    exact w_zret F (by first | exact Or.inl rfl | exact Or.inr rfl | assumption | omega) (by omega) (by omega) (⟨by rw [b2i_f (fun q => h q.1)], rfl⟩) dX8_isTold_44
  · rw [b2i_n0] at h
    refine w_iload_n F dX8_isTold_9 rfl ?_
    refine w_iconst F dX8_isTold_10 ?_
    refine w_bipush F dX8_isTold_11 rfl ?_
    refine w_callS F (As := [_, _, _]) (ct_in hE γ hs inR0 (by decide)) (lw_S q980 q981 q88 q982) md_X8_in rfl rfl (Nat.le_of_ble_eq_true rfl) dX8_isTold_13 ⟨by omega, by omega⟩ ⟨by omega, by omega⟩ ?_
    rintro _ _ ⟨rfl, rfl⟩
    refine w_if_eq F (tgt := 43) dX8_isTold_16 (by decide) (b2i_R _) (fun h2 => ?_) (fun h2 => ?_)
    · rw [b2i_0] at h2
      refine w_iconst F dX8_isTold_43 ?_
      exact w_zret F (by first | exact Or.inl rfl | exact Or.inr rfl | assumption | omega) (by omega) (by omega) (⟨by rw [b2i_f (fun q => h2 q.2.1)], rfl⟩) dX8_isTold_44
    · rw [b2i_n0] at h2
      refine w_iload_n F dX8_isTold_19 rfl ?_
      refine w_iconst F dX8_isTold_20 ?_
      refine w_bipush F dX8_isTold_21 rfl ?_
      refine w_callS F (As := [_, _, _]) (ct_in hE γ hd inR0 (by decide)) (lw_S q980 q981 q88 q982) md_X8_in rfl rfl (Nat.le_of_ble_eq_true rfl) dX8_isTold_23 ⟨by omega, by omega⟩ ⟨by omega, by omega⟩ ?_
      rintro _ _ ⟨rfl, rfl⟩
      refine w_if_eq F (tgt := 43) dX8_isTold_26 (by decide) (b2i_R _) (fun h3 => ?_) (fun h3 => ?_)
      · rw [b2i_0] at h3
        refine w_iconst F dX8_isTold_43 ?_
        exact w_zret F (by first | exact Or.inl rfl | exact Or.inr rfl | assumption | omega) (by omega) (by omega) (⟨by rw [b2i_f (fun q => h3 q.2.2.1)], rfl⟩) dX8_isTold_44
      · rw [b2i_n0] at h3
        refine w_iload_n F dX8_isTold_29 rfl ?_
        refine w_iconst F dX8_isTold_30 ?_
        refine w_bipush F dX8_isTold_31 rfl ?_
        refine w_callS F (As := [_, _, _]) (ct_in hE γ hln (by decide) (by decide)) (lw_S q980 q981 q88 q982) md_X8_in rfl rfl (Nat.le_of_ble_eq_true rfl) dX8_isTold_33 ⟨by omega, by omega⟩ ⟨by omega, by omega⟩ ?_
        rintro _ _ ⟨rfl, rfl⟩
        refine w_if_eq F (tgt := 43) dX8_isTold_36 (by decide) (b2i_R _) (fun h4 => ?_) (fun h4 => ?_)
        · rw [b2i_0] at h4
          refine w_iconst F dX8_isTold_43 ?_
          exact w_zret F (by first | exact Or.inl rfl | exact Or.inr rfl | assumption | omega) (by omega) (by omega) (⟨by rw [b2i_f (fun q => h4 q.2.2.2)], rfl⟩) dX8_isTold_44
        · rw [b2i_n0] at h4
          refine w_iconst F dX8_isTold_39 ?_
          refine w_goto F (tgt := 44) dX8_isTold_40 (by decide) ?_
          exact w_zret F (by first | exact Or.inl rfl | exact Or.inr rfl | assumption | omega) (by omega) (by omega) (⟨by rw [b2i_t ⟨h, h2, h3, h4⟩], rfl⟩) dX8_isTold_44
theorem ct_addM (hE : EOk E) (hm : 438 ≤ E.nk) (γ : GG) {Lb : Int} {v : VV} {vu vk : List VV} (hF : MF (γ 0) Lb v vu vk) (hV : VOk v) (hLb : Lb < 1000000000) {k s d ln : Int} (hk : InR k) (hs : InR s) (hd : InR d) (hln : InR ln) : Ct l yX8_add cX8_add 5 (some .int) E 600 36000 [.ref (E.ad 414), .int (iI k), .int (iI s), .int (iI d), .int (iI ln)] γ (fun r g => Off0 offA γ g ∧ ((¬ told k s d ln ∧ r = some (.int (iI (-1))) ∧ MF (g 0) (Lb + 1) v vu vk) ∨ (told k s d ln ∧ cnt v.1 12 = 12 ∧ r = some (.int (iI (-3))) ∧ MF (g 0) (Lb + 1) v vu vk) ∨ (told k s d ln ∧ cnt v.1 12 ≠ 12 ∧ r = some (.int (iI (fj v.1 : Int))) ∧ MF (g 0) (Lb + 1) (addV v k s d ln) (undN vu v) vk))) 0 0 := by
  refine Ct.of hE (by decide) (Nat.le_of_ble_eq_true rfl) (fun Φ hLn hΦ F hfr hlo => ?_)
  subst hLn; subst hΦ
  have h414 := F.ok.1.2.2
  have hrc := F.rc
  have hrs := F.rs
  show Wg Φ 5 _ 0 0 0 [(0, _), (1, _), (2, _), (3, _), (4, _)] []
  refine w_rng (fun hR => ?_)
  have : Decidable (told k s d ln) := Classical.propDecidable _
  have hb : γ 0 0 0 = (v.1 : Int) := hF.1.1
  have hb2 := hF.2.2.1
  have hc := cnt_le v.1 12
  refine w_iload_n F dX8_add_0 rfl ?_
  refine w_iload_n F dX8_add_1 rfl ?_
  refine w_iload_n F dX8_add_2 rfl ?_
  refine w_iload F dX8_add_3 rfl ?_
  refine w_callS F (As := [_, _, _, _]) (ct_isTold hE γ hk hs hd hln) (lw_S q1027 q1028 q88 q1029) md_X8_isTold rfl rfl (Nat.le_of_ble_eq_true rfl) dX8_add_5 ⟨by omega, by omega⟩ ⟨by omega, by omega⟩ ?_
  rintro _ _ ⟨rfl, rfl⟩
  refine w_if_ne F (tgt := 13) dX8_add_8 (by decide) (b2i_R _) (fun h => ?_) (fun h => ?_)
  · rw [b2i_n0] at h
    refine w_aload_n F dX8_add_13 rfl rfl ?_
    refine w_callV F (As := []) (ct_many hE hm γ hb hb2) (lw_V q1030 q1032 qs55 q88 q1033) md_X8_many (by omega) cell_mdO rfl rfl rfl rfl (Nat.le_of_ble_eq_true rfl) dX8_add_14 ⟨by omega, by omega⟩ ⟨by omega, by omega⟩ ?_
    rintro _ _ ⟨rfl, rfl⟩
    refine w_bipush F dX8_add_17 rfl ?_
    refine w_icmp_ne F (tgt := 25) dX8_add_19 (by decide) (by first | assumption | exact inR0 | exact (hR _ _ _).1 | (constructor <;> omega)) (by first | assumption | exact inR0 | exact (hR _ _ _).1 | (constructor <;> omega)) (fun h2 => ?_) (fun h2 => ?_)
    · refine w_aload_n F dX8_add_25 rfl rfl ?_
      refine w_callV F (As := []) (ct_notes hE hm γ hF) (lw_V q1034 q1036 qs56 q88 q1037) md_X8_notes (by omega) cell_mdO rfl rfl rfl rfl (Nat.le_of_ble_eq_true rfl) dX8_add_26 ⟨by omega, by omega⟩ ⟨by omega, by omega⟩ ?_
      rintro _ g1 ⟨rfl, hF1, o1⟩
      obtain ⟨q1, q2, q3⟩ := fj_spec (b := v.1) (by omega)
      have hlv := hF1.2.1
      refine w_aload_n F dX8_add_29 rfl rfl ?_
      refine w_iload_n F dX8_add_30 rfl ?_
      refine w_iload_n F dX8_add_31 rfl ?_
      refine w_iload_n F dX8_add_32 rfl ?_
      refine w_iload F dX8_add_33 rfl ?_
      refine w_callV F (As := [_, _, _, _]) (ct_comes hE hm g1 (ot := some v.2.2) hV.1 ⟨hF1.1, hV.2.1⟩ q1 q2 q3 h.1 h.2.1 h.2.2.1 h.2.2.2 (by omega)) (lw_V q826 q828 qs35 q88 q829) md_X8_comes (by omega) cell_mdO rfl rfl rfl rfl (Nat.le_of_ble_eq_true rfl) dX8_add_35 ⟨by omega, by omega⟩ ⟨by omega, by omega⟩ ?_
      rintro _ g2 ⟨rfl, hv2, h11, o2⟩
      have hn := lev_n (keyT (upT v.2.1 (fj v.1) k s d ln)) (keyT (upT v.2.1 (fj v.1) k s d ln) (fj v.1)) (insT (keyT (upT v.2.1 (fj v.1) k s d ln)) (fj v.1) v.2.2)
      have h11' : g2 0 11 0 = g1 0 11 0 + ((levT (keyT (upT v.2.1 (fj v.1) k s d ln)) (keyT (upT v.2.1 (fj v.1) k s d ln) (fj v.1)) (insT (keyT (upT v.2.1 (fj v.1) k s d ln)) (fj v.1) v.2.2)).2 : Nat) := h11
      exact w_iret F (by omega) (by omega) (⟨(o1.mono (by decide)).tr (o2.mono (by decide)), Or.inr (Or.inr ⟨h, by omega, rfl, MF.off (σ := g2 0) hF1 o2 rfl (by omega) (w := addV v k s d ln) hv2 (or_lt hb2 q1) (by omega)⟩)⟩) dX8_add_38
    · refine w_bipush F dX8_add_22 rfl ?_
      exact w_iret F (by omega) (by omega) (⟨Off0.rf, Or.inr (Or.inl ⟨h, by omega, rfl, hF.mono (by omega)⟩)⟩) dX8_add_24
  · rw [b2i_0] at h
    refine w_iconst F dX8_add_11 ?_
    exact w_iret F (by omega) (by omega) (⟨Off0.rf, Or.inl ⟨h, rfl, hF.mono (by omega)⟩⟩) dX8_add_12
theorem ct_cutM (hE : EOk E) (hm : 438 ≤ E.nk) (γ : GG) {Lb : Int} {v : VV} {vu vk : List VV} (hF : MF (γ 0) Lb v vu vk) (hV : VOk v) (hLb : Lb < 1000000000) {j : Int} (hj : InR j) (hc2 : cnt v.1 12 ≠ 1 → 2 ≤ (tl v.2.2).length) : Ct l yX8_cut cX8_cut 2 (some .int) E 600 36000 [.ref (E.ad 414), .int (iI j)] γ (fun r g => Off0 offA γ g ∧ ((¬ (0 ≤ j ∧ j ≤ 11 ∧ v.1.testBit j.toNat = true) ∧ r = some (.int (iI (-1))) ∧ MF (g 0) (Lb + 1) v vu vk) ∨ ((0 ≤ j ∧ j ≤ 11 ∧ v.1.testBit j.toNat = true) ∧ cnt v.1 12 = 1 ∧ r = some (.int (iI (-2))) ∧ MF (g 0) (Lb + 1) v vu vk) ∨ ((0 ≤ j ∧ j ≤ 11 ∧ v.1.testBit j.toNat = true) ∧ cnt v.1 12 ≠ 1 ∧ r = some (.int (iI (cnt (cutV v j.toNat).1 12 : Int))) ∧ MF (g 0) (Lb + 1) (cutV v j.toNat) (undN vu v) vk))) 0 0 := by
  refine Ct.of hE (by decide) (Nat.le_of_ble_eq_true rfl) (fun Φ hLn hΦ F hfr hlo => ?_)
  subst hLn; subst hΦ
  have h414 := F.ok.1.2.2
  have hrc := F.rc
  have hrs := F.rs
  show Wg Φ 2 _ 0 0 0 [(0, _), (1, _)] []
  refine w_rng (fun hR => ?_)
  have hb : γ 0 0 0 = (v.1 : Int) := hF.1.1
  have hb2 := hF.2.2.1
  have hc := cnt_le v.1 12
  refine w_aload_n F dX8_cut_0 rfl rfl ?_
  refine w_iload_n F dX8_cut_1 rfl ?_
  refine w_callV F (As := [_]) (ct_isJob hE hm γ hb hb2 hj) (lw_V q976 q978 qs45 q88 q979) md_X8_isJob (by omega) cell_mdO rfl rfl rfl rfl (Nat.le_of_ble_eq_true rfl) dX8_cut_2 ⟨by omega, by omega⟩ ⟨by omega, by omega⟩ ?_
  rintro _ _ ⟨rfl, rfl⟩
  refine w_if_ne F (tgt := 10) dX8_cut_5 (by decide) (b2i_R _) (fun h => ?_) (fun h => ?_)
  · rw [b2i_n0] at h
    obtain ⟨i, rfl⟩ : ∃ i : Nat, j = (i : Int) := ⟨j.toNat, by omega⟩
    have hi : v.1.testBit i = true := by simpa using h.2.2
    refine w_aload_n F dX8_cut_10 rfl rfl ?_
    refine w_callV F (As := []) (ct_many hE hm γ hb hb2) (lw_V q1030 q1032 qs55 q88 q1033) md_X8_many (by omega) cell_mdO rfl rfl rfl rfl (Nat.le_of_ble_eq_true rfl) dX8_cut_11 ⟨by omega, by omega⟩ ⟨by omega, by omega⟩ ?_
    rintro _ _ ⟨rfl, rfl⟩
    refine w_iconst F dX8_cut_14 ?_
    refine w_icmp_ne F (tgt := 21) dX8_cut_15 (by decide) (by first | assumption | exact inR0 | exact (hR _ _ _).1 | (constructor <;> omega)) (by first | assumption | exact inR0 | exact (hR _ _ _).1 | (constructor <;> omega)) (fun h2 => ?_) (fun h2 => ?_)
    · refine w_aload_n F dX8_cut_21 rfl rfl ?_
      refine w_callV F (As := []) (ct_notes hE hm γ hF) (lw_V q1034 q1036 qs56 q88 q1037) md_X8_notes (by omega) cell_mdO rfl rfl rfl rfl (Nat.le_of_ble_eq_true rfl) dX8_cut_22 ⟨by omega, by omega⟩ ⟨by omega, by omega⟩ ?_
      rintro _ g1 ⟨rfl, hF1, o1⟩
      have hlv := hF1.2.1
      refine w_aload_n F dX8_cut_25 rfl rfl ?_
      refine w_iload_n F dX8_cut_26 rfl ?_
      refine w_callV F (As := [_]) (ct_goes hE hm g1 hV.1 hF1.1 hV.2.1 hV.2.2 hi (hc2 (by omega)) (by omega)) (lw_V q1046 q1048 qs58 q88 q1049) md_X8_goes (by omega) cell_mdO rfl rfl rfl rfl (Nat.le_of_ble_eq_true rfl) dX8_cut_27 ⟨by omega, by omega⟩ ⟨by omega, by omega⟩ ?_
      rintro _ g2 ⟨rfl, hv2, h11, o2⟩
      have hn := cut_n (keyT v.2.1) (keyT v.2.1 i) v.2.2
      have hx : v.1 ^^^ (v.1 &&& 2 ^ i) < 4096 := xor_lt hb2
      refine w_aload_n F dX8_cut_30 rfl rfl ?_
      refine w_callV F (As := []) (ct_many hE hm g2 hv2.1 hx) (lw_V q1030 q1032 qs55 q88 q1033) md_X8_many (by omega) cell_mdO rfl rfl rfl rfl (Nat.le_of_ble_eq_true rfl) dX8_cut_31 ⟨by omega, by omega⟩ ⟨by omega, by omega⟩ ?_
      rintro _ _ ⟨rfl, rfl⟩
      exact w_iret F (by omega) (by omega) (⟨(o1.mono (by decide)).tr (o2.mono (by decide)), Or.inr (Or.inr ⟨h, by omega, rfl, MF.off (σ := g2 0) hF1 o2 rfl (by omega) (w := cutV v i) hv2 hx (by omega)⟩)⟩) dX8_cut_34
    · refine w_bipush F dX8_cut_18 rfl ?_
      exact w_iret F (by omega) (by omega) (⟨Off0.rf, Or.inr (Or.inl ⟨h, by omega, rfl, hF.mono (by omega)⟩)⟩) dX8_cut_20
  · rw [b2i_0] at h
    refine w_iconst F dX8_cut_8 ?_
    exact w_iret F (by omega) (by omega) (⟨Off0.rf, Or.inl ⟨h, rfl, hF.mono (by omega)⟩⟩) dX8_cut_9
end M14
