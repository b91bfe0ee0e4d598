/-! the model: its small methods -/
/-- how many of the first n bits are set -/
def cnt (b : Nat) : Nat → Nat
  | 0 => 0
  | n + 1 => cnt b n + (b.testBit n).toNat
theorem cnt_le (b : Nat) : ∀ n, cnt b n ≤ n
  | 0 => Nat.le_refl 0
  | n + 1 => by
    have h1 := cnt_le b n
    have h2 : (b.testBit n).toNat ≤ 1 := Bool.toNat_le _
    show cnt b n + _ ≤ _
    omega
/-- a job's rank by kind, length and deadline -/
def rk (kd ln d : Int) : Int := if kd = 2 then d + ln else if kd = 1 then d / 2 else if kd = 3 then (if d / 2 - ln < 0 then 0 else d / 2 - ln) else d
section M1
variable {l : Launch} {E : EE}
theorem ct_in (hE : EOk E) (γ : GG) {v a b : Int} (hv : InR v) (ha : InR a) (hb : InR b) : Ct l yX8_in cX8_in 3 (some .boolean) E 100 16000 [.int (iI v), .int (iI a), .int (iI b)] γ (pI (b2i (a ≤ v ∧ v ≤ b)) γ) 0 0 := by
  refine Ct.of hE (by decide) (Nat.le_of_ble_eq_true rfl) (fun Φ hLn hΦ F hfr hlo => ?_)
  subst hLn; subst hΦ
  have h414 := F.ok.1.2.2
  have hrc := F.rc
  have hrs := F.rs
  show Wg Φ 3 _ 0 0 0 [(0, _), (1, _), (2, _)] []
  refine w_rng (fun hR => ?_)
  refine w_iload_n F dX8_in_0 rfl ?_
  refine w_iload_n F dX8_in_1 rfl ?_
  refine w_icmp_lt F (tgt := 14) dX8_in_2 (by decide) (by first | assumption | exact inR0 | exact (hR _ _ _).1 | (constructor <;> omega)) (by first | assumption | exact inR0 | exact (hR _ _ _).1 | (constructor <;> omega)) (fun h => ?_) (fun h => ?_)
  · refine w_iconst F dX8_in_14 ?_
    exact w_zret F (by first | exact Or.inl rfl | exact Or.inr rfl | assumption | omega) (by omega) (by omega) (⟨by rw [b2i_f (by omega)], rfl⟩) dX8_in_15
  · refine w_iload_n F dX8_in_5 rfl ?_
    refine w_iload_n F dX8_in_6 rfl ?_
    refine w_icmp_gt F (tgt := 14) dX8_in_7 (by decide) (by first | assumption | exact inR0 | exact (hR _ _ _).1 | (constructor <;> omega)) (by first | assumption | exact inR0 | exact (hR _ _ _).1 | (constructor <;> omega)) (fun h2 => ?_) (fun h2 => ?_)
    · refine w_iconst F dX8_in_14 ?_
      exact w_zret F (by first | exact Or.inl rfl | exact Or.inr rfl | assumption | omega) (by omega) (by omega) (⟨by rw [b2i_f (by omega)], rfl⟩) dX8_in_15
    · refine w_iconst F dX8_in_10 ?_
      refine w_goto F (tgt := 15) dX8_in_11 (by decide) ?_
      exact w_zret F (by first | exact Or.inl rfl | exact Or.inr rfl | assumption | omega) (by omega) (by omega) (⟨by rw [b2i_t (by omega)], rfl⟩) dX8_in_15
theorem ct_has (hE : EOk E) (γ : GG) {a j : Nat} (ha : a < 2 ^ 31) (hj : j < 31) : Ct l yX8_has cX8_has 2 (some .boolean) E 100 16000 [.int (iI (a : Int)), .int (iI (j : Int))] γ (pI (b2i (a.testBit j = true)) γ) 0 0 := by
  refine Ct.of hE (by decide) (Nat.le_of_ble_eq_true rfl) (fun Φ hLn hΦ F hfr hlo => ?_)
  subst hLn; subst hΦ
  have h414 := F.ok.1.2.2
  have hrc := F.rc
  have hrs := F.rs
  show Wg Φ 2 _ 0 0 0 [(0, _), (1, _)] []
  refine w_rng (fun hR => ?_)
  refine w_iload_n F dX8_has_0 rfl ?_
  refine w_iload_n F dX8_has_1 rfl ?_
  refine w_ishr F (by omega) (by omega) dX8_has_2 ?_
  refine w_iconst F dX8_has_3 ?_
  first | refine w_iandC F (by omega) dX8_has_4 ?_ | refine w_iand F dX8_has_4 ?_
  refine w_iconst F dX8_has_5 ?_
  have hb : ((a / 2 ^ j &&& 1 : Nat) : Int) = ((a.testBit j).toNat : Int) := by rw [tb_and1]
  refine w_icmp_ne F (tgt := 13) dX8_has_6 (by decide) (by rw [hb]; cases a.testBit j <;> decide) (by first | assumption | exact inR0 | exact (hR _ _ _).1 | (constructor <;> omega)) (fun h => ?_) (fun h => ?_)
  · refine w_iconst F dX8_has_13 ?_
    exact w_zret F (by first | exact Or.inl rfl | exact Or.inr rfl | assumption | omega) (by omega) (by omega) (⟨by rw [b2i_f (fun q => h (by rw [hb, q]; rfl))], rfl⟩) dX8_has_14
  · refine w_iconst F dX8_has_9 ?_
    refine w_goto F (tgt := 14) dX8_has_10 (by decide) ?_
    exact w_zret F (by first | exact Or.inl rfl | exact Or.inr rfl | assumption | omega) (by omega) (by omega) (⟨by rw [b2i_t (by rw [hb] at h; revert h; cases a.testBit j <;> decide)], rfl⟩) dX8_has_14
theorem ct_isLeaf (hE : EOk E) (hm : 438 ≤ E.nk) (γ : GG) {x : Nat} (hx : x < 24) : Ct l yX8_isLeaf cX8_isLeaf 2 (some .boolean) E 100 16000 [.ref (E.ad 414), .int (iI (x : Int))] γ (pI (b2i (γ 0 6 x = -1)) γ) 0 0 := by
  refine Ct.of hE (by decide) (Nat.le_of_ble_eq_true rfl) (fun Φ hLn hΦ F hfr hlo => ?_)
  subst hLn; subst hΦ
  have h414 := F.ok.1.2.2
  have hrc := F.rc
  have hrs := F.rs
  show Wg Φ 2 _ 0 0 0 [(0, _), (1, _)] []
  refine w_rng (fun hR => ?_)
  refine w_aload_n F dX8_isLeaf_0 rfl rfl ?_
  refine w_get F (by omega) cell_mdO rfl in_X8 6 (by decide) (Or.inl q878) rfl dX8_isLeaf_1 ?_
  refine w_iload_n F dX8_isLeaf_4 rfl ?_
  first | refine w_ialdN F (aM6 _) (by omega) (by decide) (by omega) dX8_isLeaf_5 ?_ | refine w_iald F (aM6 _) (by omega) (by decide) (by omega) (by omega) dX8_isLeaf_5 ?_
  refine w_iconst F dX8_isLeaf_6 ?_
  refine w_icmp_ne F (tgt := 14) dX8_isLeaf_7 (by decide) (by first | assumption | exact inR0 | exact (hR _ _ _).1 | (constructor <;> omega)) (by first | assumption | exact inR0 | exact (hR _ _ _).1 | (constructor <;> omega)) (fun h => ?_) (fun h => ?_)
  · refine w_iconst F dX8_isLeaf_14 ?_
    exact w_zret F (by first | exact Or.inl rfl | exact Or.inr rfl | assumption | omega) (by omega) (by omega) (⟨by rw [b2i_f h], rfl⟩) dX8_isLeaf_15
  · refine w_iconst F dX8_isLeaf_10 ?_
    refine w_goto F (tgt := 15) dX8_isLeaf_11 (by decide) ?_
    exact w_zret F (by first | exact Or.inl rfl | exact Or.inr rfl | assumption | omega) (by omega) (by omega) (⟨by rw [b2i_t h], rfl⟩) dX8_isLeaf_15
theorem ct_many (hE : EOk E) (hm : 438 ≤ E.nk) (γ : GG) {b : Nat} (hb : γ 0 0 0 = (b : Int)) (hb2 : b < 4096) : Ct l yX8_many cX8_many 3 (some .int) E 100 16000 [.ref (E.ad 414)] γ (pI (cnt b 12) γ) 0 0 := by
  refine Ct.of hE (by decide) (Nat.le_of_ble_eq_true rfl) (fun Φ hLn hΦ F hfr hlo => ?_)
  subst hLn; subst hΦ
  have h414 := F.ok.1.2.2
  have hrc := F.rc
  have hrs := F.rs
  show Wg Φ 3 _ 0 0 0 [(0, _)] []
  refine w_rng (fun hR => ?_)
  refine w_iconst F dX8_many_0 ?_
  refine w_istore_n F dX8_many_1 (by decide) rfl (lv' := [(0, _), (1, _)]) rfl ?_
  refine w_iconst F dX8_many_2 ?_
  refine w_istore_n F dX8_many_3 (by decide) rfl (lv' := [(0, _), (1, _), (2, _)]) rfl ?_
  have loop : ∀ m j : Nat, j ≤ 12 → 12 - j ≤ m → Wg Φ 3 γ 0 0 4 [(0, .ref (Φ.E.ad 414)), (1, .int (iI (cnt b j : Int))), (2, .int (iI (j : Int)))] [] := by
    intro m
    induction m with
    | zero =>
      intro j h1 h2
      refine w_iload_n F dX8_many_4 rfl ?_
      refine w_bipush F dX8_many_5 rfl ?_
      refine w_icmp_ge F (tgt := 27) dX8_many_7 (by decide) (by first | assumption | exact inR0 | exact (hR _ _ _).1 | (constructor <;> omega)) (by first | assumption | exact inR0 | exact (hR _ _ _).1 | (constructor <;> omega)) (fun h => ?_) (fun h => ?_)
      · refine w_iload_n F dX8_many_27 rfl ?_
        exact w_iret F (by omega) (by omega) (⟨by rw [show j = 12 by omega], rfl⟩) dX8_many_28
      · omega
    | succ m ih =>
      intro j h1 h2
      have hc := cnt_le b j
      refine w_iload_n F dX8_many_4 rfl ?_
      refine w_bipush F dX8_many_5 rfl ?_
      refine w_icmp_ge F (tgt := 27) dX8_many_7 (by decide) (by first | assumption | exact inR0 | exact (hR _ _ _).1 | (constructor <;> omega)) (by first | assumption | exact inR0 | exact (hR _ _ _).1 | (constructor <;> omega)) (fun h => ?_) (fun h => ?_)
      · refine w_iload_n F dX8_many_27 rfl ?_
        exact w_iret F (by omega) (by omega) (⟨by rw [show j = 12 by omega], rfl⟩) dX8_many_28
      · refine w_iload_n F dX8_many_10 rfl ?_
        refine w_aload_n F dX8_many_11 rfl rfl ?_
        refine w_getF F (fM0 _) (by omega) rfl in_X8 (by decide) (Or.inl q872) dX8_many_12 ?_
        refine w_top hb ?_
        refine w_iload_n F dX8_many_15 rfl ?_
        refine w_ishr F (by omega) (by omega) dX8_many_16 ?_
        refine w_iconst F dX8_many_17 ?_
        first | refine w_iandC F (by omega) dX8_many_18 ?_ | refine w_iand F dX8_many_18 ?_
        refine w_iadd F dX8_many_19 ?_
        refine w_istore_n F dX8_many_20 (by decide) rfl (lv' := [(0, _), (1, _), (2, _)]) rfl ?_
        refine w_iinc F dX8_many_21 rfl (by decide) rfl (lv' := [(0, _), (1, _), (2, _)]) rfl ?_
        refine w_goto F (tgt := 4) dX8_many_24 (by decide) ?_
        have e1 : ((cnt b j : Nat) : Int) + ((b / 2 ^ j &&& 1 : Nat) : Int) = ((cnt b (j + 1) : Nat) : Int) := by rw [tb_and1]; rfl
        have e2 : (j : Int) + 1 = ((j + 1 : Nat) : Int) := rfl
        rw [e1, e2]
        exact ih (j + 1) (by omega) (by omega)
  exact loop 12 0 (by omega) (by omega)
theorem ct_isJob (hE : EOk E) (hm : 438 ≤ E.nk) (γ : GG) {b : Nat} (hb : γ 0 0 0 = (b : Int)) (hb2 : b < 4096) {j : Int} (hj : InR j) : Ct l yX8_isJob cX8_isJob 2 (some .boolean) E 200 20000 [.ref (E.ad 414), .int (iI j)] γ (pI (b2i (0 ≤ j ∧ j ≤ 11 ∧ b.testBit j.toNat = true)) γ) 0 0 := by
  refine Ct.of hE (by decide) (Nat.le_of_ble_eq_true rfl) (fun Φ hLn hΦ F hfr hlo => ?_)
  subst hLn; subst hΦ
  have h414 := F.ok.1.2.2
  have hrc := F.rc
  have hrs := F.rs
  show Wg Φ 2 _ 0 0 0 [(0, _), (1, _)] []
  refine w_rng (fun hR => ?_)
  refine w_iload_n F dX8_isJob_0 rfl ?_
  refine w_iconst F dX8_isJob_1 ?_
  refine w_bipush F dX8_isJob_2 rfl ?_
  refine w_callS F (As := [_, _, _]) (ct_in hE γ hj inR0 (by decide)) (lw_S q980 q981 q88 q982) md_X8_in rfl rfl (Nat.le_of_ble_eq_true rfl) dX8_isJob_4 ⟨by omega, by omega⟩ ⟨by omega, by omega⟩ ?_
  rintro _ _ ⟨rfl, rfl⟩
  refine w_if_eq F (tgt := 25) dX8_isJob_7 (by decide) (b2i_R _) (fun h => ?_) (fun h => ?_)
  · rw [b2i_0] at h
    refine w_iconst F dX8_isJob_25 ?_
    exact w_zret F (by first | exact Or.inl rfl | exact Or.inr rfl | assumption | omega) (by omega) (by omega) (⟨by rw [b2i_f (by omega)], rfl⟩) dX8_isJob_26
  · rw [b2i_n0] at h
    obtain ⟨i, rfl⟩ : ∃ i : Nat, j = (i : Int) := ⟨j.toNat, by omega⟩
    refine w_aload_n F dX8_isJob_10 rfl rfl ?_
    refine w_getF F (fM0 _) (by omega) rfl in_X8 (by decide) (Or.inl q872) dX8_isJob_11 ?_
    refine w_top hb ?_
    refine w_iload_n F dX8_isJob_14 rfl ?_
    refine w_callS F (As := [_, _]) (ct_has hE γ (a := b) (j := i) (by omega) (by omega)) (lw_S q830 q831 q88 q832) md_X8_has rfl rfl (Nat.le_of_ble_eq_true rfl) dX8_isJob_15 ⟨by omega, by omega⟩ ⟨by omega, by omega⟩ ?_
    rintro _ _ ⟨rfl, rfl⟩
    refine w_if_eq F (tgt := 25) dX8_isJob_18 (by decide) (b2i_R _) (fun h2 => ?_) (fun h2 => ?_)
    · rw [b2i_0] at h2
      refine w_iconst F dX8_isJob_25 ?_
      exact w_zret F (by first | exact Or.inl rfl | exact Or.inr rfl | assumption | omega) (by omega) (by omega) (⟨by rw [b2i_f (fun q => h2 (by simpa using q.2.2))], rfl⟩) dX8_isJob_26
    · rw [b2i_n0] at h2
      refine w_iconst F dX8_isJob_21 ?_
      refine w_goto F (tgt := 26) dX8_isJob_22 (by decide) ?_
      exact w_zret F (by first | exact Or.inl rfl | exact Or.inr rfl | assumption | omega) (by omega) (by omega) (⟨by rw [b2i_t ⟨by omega, by omega, by simpa using h2⟩], rfl⟩) dX8_isJob_26
theorem ct_isLeft (hE : EOk E) (γ : GG) {s n s2 n2 : Int} (h1 : InR s) (h2 : InR n) (h3 : InR s2) (h4 : InR n2) : Ct l yX8_isLeft cX8_isLeft 4 (some .boolean) E 100 16000 [.int (iI s), .int (iI n), .int (iI s2), .int (iI n2)] γ (pI (b2i (s < s2 ∨ s = s2 ∧ n ≤ n2)) γ) 0 0 := by
  refine Ct.of hE (by decide) (Nat.le_of_ble_eq_true rfl) (fun Φ hLn hΦ F hfr hlo => ?_)
  subst hLn; subst hΦ
  have h414 := F.ok.1.2.2
  have hrc := F.rc
  have hrs := F.rs
  show Wg Φ 4 _ 0 0 0 [(0, _), (1, _), (2, _), (3, _)] []
  refine w_rng (fun hR => ?_)
  refine w_iload_n F dX8_isLeft_0 rfl ?_
  refine w_iload_n F dX8_isLeft_1 rfl ?_
  refine w_icmp_lt F (tgt := 15) dX8_isLeft_2 (by decide) (by first | assumption | exact inR0 | exact (hR _ _ _).1 | (constructor <;> omega)) (by first | assumption | exact inR0 | exact (hR _ _ _).1 | (constructor <;> omega)) (fun h => ?_) (fun h => ?_)
  · refine w_iconst F dX8_isLeft_15 ?_
    refine w_goto F (tgt := 20) dX8_isLeft_16 (by decide) ?_
    exact w_zret F (by first | exact Or.inl rfl | exact Or.inr rfl | assumption | omega) (by omega) (by omega) (⟨by rw [b2i_t (by omega)], rfl⟩) dX8_isLeft_20
  · refine w_iload_n F dX8_isLeft_5 rfl ?_
    refine w_iload_n F dX8_isLeft_6 rfl ?_
    refine w_icmp_ne F (tgt := 19) dX8_isLeft_7 (by decide) (by first | assumption | exact inR0 | exact (hR _ _ _).1 | (constructor <;> omega)) (by first | assumption | exact inR0 | exact (hR _ _ _).1 | (constructor <;> omega)) (fun h2 => ?_) (fun h2 => ?_)
    · refine w_iconst F dX8_isLeft_19 ?_
      exact w_zret F (by first | exact Or.inl rfl | exact Or.inr rfl | assumption | omega) (by omega) (by omega) (⟨by rw [b2i_f (by omega)], rfl⟩) dX8_isLeft_20
    · refine w_iload_n F dX8_isLeft_10 rfl ?_
      refine w_iload_n F dX8_isLeft_11 rfl ?_
      refine w_icmp_gt F (tgt := 19) dX8_isLeft_12 (by decide) (by first | assumption | exact inR0 | exact (hR _ _ _).1 | (constructor <;> omega)) (by first | assumption | exact inR0 | exact (hR _ _ _).1 | (constructor <;> omega)) (fun h3 => ?_) (fun h3 => ?_)
      · refine w_iconst F dX8_isLeft_19 ?_
        exact w_zret F (by first | exact Or.inl rfl | exact Or.inr rfl | assumption | omega) (by omega) (by omega) (⟨by rw [b2i_f (by omega)], rfl⟩) dX8_isLeft_20
      · refine w_iconst F dX8_isLeft_15 ?_
        refine w_goto F (tgt := 20) dX8_isLeft_16 (by decide) ?_
        exact w_zret F (by first | exact Or.inl rfl | exact Or.inr rfl | assumption | omega) (by omega) (by omega) (⟨by rw [b2i_t (by omega)], rfl⟩) dX8_isLeft_20
theorem ct_rankBy (hE : EOk E) (hm : 438 ≤ E.nk) (γ : GG) {j : Nat} (hj : j < 12) {d : Int} (h0 : 0 ≤ d) (h1 : d ≤ 1000) (hl0 : 0 ≤ γ 0 4 j) (hl1 : γ 0 4 j ≤ 100) : Ct l yX8_rankBy cX8_rankBy 4 (some .int) E 100 16000 [.ref (E.ad 414), .int (iI (j : Int)), .int (iI d)] γ (pI (rk (γ 0 1 j) (γ 0 4 j) d) γ) 0 0 := by
  refine Ct.of hE (by decide) (Nat.le_of_ble_eq_true rfl) (fun Φ hLn hΦ F hfr hlo => ?_)
  subst hLn; subst hΦ
  have h414 := F.ok.1.2.2
  have hrc := F.rc
  have hrs := F.rs
  show Wg Φ 4 _ 0 0 0 [(0, _), (1, _), (2, _)] []
  refine w_rng (fun hR => ?_)
  have hd : InR d := ⟨by omega, by omega⟩
  have J : ∀ r : Int, r = (if γ 0 1 j = 1 ∨ γ 0 1 j = 3 then d / 2 else d) → Wg Φ 4 γ 0 0 27 [(0, .ref (Φ.E.ad 414)), (1, .int (iI (j : Int))), (2, .int (iI d))] [.int (iI r)] := by
    intro r hr
    have hr0 : 0 ≤ r ∧ r ≤ 1000 := by rw [hr]; split <;> omega
    refine w_istore_n F dX8_rankBy_27 (by decide) rfl (lv' := [(0, _), (1, _), (2, _), (3, _)]) rfl ?_
    refine w_aload_n F dX8_rankBy_28 rfl rfl ?_
    refine w_get F (by omega) cell_mdO rfl in_X8 1 (by decide) (Or.inl q873) rfl dX8_rankBy_29 ?_
    refine w_iload_n F dX8_rankBy_32 rfl ?_
    first | refine w_ialdN F (aM1 _) (by omega) (by decide) (by omega) dX8_rankBy_33 ?_ | refine w_iald F (aM1 _) (by omega) (by decide) (by omega) (by omega) dX8_rankBy_33 ?_
    refine w_iconst F dX8_rankBy_34 ?_
    refine w_icmp_ne F (tgt := 47) dX8_rankBy_35 (by decide) (by first | assumption | exact inR0 | exact (hR _ _ _).1 | (constructor <;> omega)) (by first | assumption | exact inR0 | exact (hR _ _ _).1 | (constructor <;> omega)) (fun h => ?_) (fun h => ?_)
    · refine w_iload_n F dX8_rankBy_47 rfl ?_
      refine w_aload_n F dX8_rankBy_48 rfl rfl ?_
      refine w_get F (by omega) cell_mdO rfl in_X8 1 (by decide) (Or.inl q873) rfl dX8_rankBy_49 ?_
      refine w_iload_n F dX8_rankBy_52 rfl ?_
      first | refine w_ialdN F (aM1 _) (by omega) (by decide) (by omega) dX8_rankBy_53 ?_ | refine w_iald F (aM1 _) (by omega) (by decide) (by omega) (by omega) dX8_rankBy_53 ?_
      refine w_iconst F dX8_rankBy_54 ?_
      refine w_icmp_ne F (tgt := 67) dX8_rankBy_55 (by decide) (by first | assumption | exact inR0 | exact (hR _ _ _).1 | (constructor <;> omega)) (by first | assumption | exact inR0 | exact (hR _ _ _).1 | (constructor <;> omega)) (fun h2 => ?_) (fun h2 => ?_)
      · refine w_iconst F dX8_rankBy_67 ?_
        refine w_isub F dX8_rankBy_68 ?_
        refine w_istore_n F dX8_rankBy_69 (by decide) rfl (lv' := [(0, _), (1, _), (2, _), (3, _)]) rfl ?_
        refine w_iload_n F dX8_rankBy_70 rfl ?_
        refine w_if_ge F (tgt := 78) dX8_rankBy_71 (by decide) (by first | assumption | exact inR0 | exact (hR _ _ _).1 | (constructor <;> omega)) (fun h3 => ?_) (fun h3 => ?_)
        · refine w_iload_n F dX8_rankBy_78 rfl ?_
          exact w_iret F (by omega) (by omega) (⟨by rw [hr]; unfold rk; grind, rfl⟩) dX8_rankBy_79
        · omega
      · refine w_aload_n F dX8_rankBy_58 rfl rfl ?_
        refine w_get F (by omega) cell_mdO rfl in_X8 4 (by decide) (Or.inl q876) rfl dX8_rankBy_59 ?_
        refine w_iload_n F dX8_rankBy_62 rfl ?_
        first | refine w_ialdN F (aM4 _) (by omega) (by decide) (by omega) dX8_rankBy_63 ?_ | refine w_iald F (aM4 _) (by omega) (by decide) (by omega) (by omega) dX8_rankBy_63 ?_
        refine w_goto F (tgt := 68) dX8_rankBy_64 (by decide) ?_
        refine w_isub F dX8_rankBy_68 ?_
        refine w_istore_n F dX8_rankBy_69 (by decide) rfl (lv' := [(0, _), (1, _), (2, _), (3, _)]) rfl ?_
        refine w_iload_n F dX8_rankBy_70 rfl ?_
        refine w_if_ge F (tgt := 78) dX8_rankBy_71 (by decide) (by first | assumption | exact inR0 | exact (hR _ _ _).1 | (constructor <;> omega)) (fun h3 => ?_) (fun h3 => ?_)
        · refine w_iload_n F dX8_rankBy_78 rfl ?_
          exact w_iret F (by omega) (by omega) (⟨by rw [hr]; unfold rk; grind, rfl⟩) dX8_rankBy_79
        · refine w_iconst F dX8_rankBy_74 ?_
          refine w_goto F (tgt := 79) dX8_rankBy_75 (by decide) ?_
          exact w_iret F (by omega) (by omega) (⟨by rw [hr] at h3; unfold rk; grind, rfl⟩) dX8_rankBy_79
    · refine w_iload_n F dX8_rankBy_38 rfl ?_
      refine w_aload_n F dX8_rankBy_39 rfl rfl ?_
      refine w_get F (by omega) cell_mdO rfl in_X8 4 (by decide) (Or.inl q876) rfl dX8_rankBy_40 ?_
      refine w_iload_n F dX8_rankBy_43 rfl ?_
      first | refine w_ialdN F (aM4 _) (by omega) (by decide) (by omega) dX8_rankBy_44 ?_ | refine w_iald F (aM4 _) (by omega) (by decide) (by omega) (by omega) dX8_rankBy_44 ?_
      refine w_iadd F dX8_rankBy_45 ?_
      exact w_iret F (by omega) (by omega) (⟨by rw [hr]; unfold rk; grind, rfl⟩) dX8_rankBy_46
  refine w_aload_n F dX8_rankBy_0 rfl rfl ?_
  refine w_get F (by omega) cell_mdO rfl in_X8 1 (by decide) (Or.inl q873) rfl dX8_rankBy_1 ?_
  refine w_iload_n F dX8_rankBy_4 rfl ?_
  first | refine w_ialdN F (aM1 _) (by omega) (by decide) (by omega) dX8_rankBy_5 ?_ | refine w_iald F (aM1 _) (by omega) (by decide) (by omega) (by omega) dX8_rankBy_5 ?_
  refine w_iconst F dX8_rankBy_6 ?_
  refine w_icmp_eq F (tgt := 20) dX8_rankBy_7 (by decide) (by first | assumption | exact inR0 | exact (hR _ _ _).1 | (constructor <;> omega)) (by first | assumption | exact inR0 | exact (hR _ _ _).1 | (constructor <;> omega)) (fun h => ?_) (fun h => ?_)
  · refine w_iload_n F dX8_rankBy_20 rfl ?_
    refine w_iconst F dX8_rankBy_21 ?_
    refine w_idiv F dX8_rankBy_22 (by omega) (by first | assumption | exact inR0 | exact (hR _ _ _).1 | (constructor <;> omega)) (by decide) (by decide) ?_
    refine w_goto F (tgt := 27) dX8_rankBy_23 (by decide) ?_
    exact J _ (by rw [if_pos (Or.inl h)])
  · refine w_aload_n F dX8_rankBy_10 rfl rfl ?_
    refine w_get F (by omega) cell_mdO rfl in_X8 1 (by decide) (Or.inl q873) rfl dX8_rankBy_11 ?_
    refine w_iload_n F dX8_rankBy_14 rfl ?_
    first | refine w_ialdN F (aM1 _) (by omega) (by decide) (by omega) dX8_rankBy_15 ?_ | refine w_iald F (aM1 _) (by omega) (by decide) (by omega) (by omega) dX8_rankBy_15 ?_
    refine w_iconst F dX8_rankBy_16 ?_
    refine w_icmp_ne F (tgt := 26) dX8_rankBy_17 (by decide) (by first | assumption | exact inR0 | exact (hR _ _ _).1 | (constructor <;> omega)) (by first | assumption | exact inR0 | exact (hR _ _ _).1 | (constructor <;> omega)) (fun h2 => ?_) (fun h2 => ?_)
    · refine w_iload_n F dX8_rankBy_26 rfl ?_
      exact J _ (by rw [if_neg (by omega)])
    · refine w_iload_n F dX8_rankBy_20 rfl ?_
      refine w_iconst F dX8_rankBy_21 ?_
      refine w_idiv F dX8_rankBy_22 (by omega) (by first | assumption | exact inR0 | exact (hR _ _ _).1 | (constructor <;> omega)) (by decide) (by decide) ?_
      refine w_goto F (tgt := 27) dX8_rankBy_23 (by decide) ?_
      exact J _ (by rw [if_pos (Or.inr h2)])
theorem ct_rank (hE : EOk E) (hm : 438 ≤ E.nk) (γ : GG) {j : Nat} (hj : j < 12) (h0 : 0 ≤ γ 0 3 j) (h1 : γ 0 3 j ≤ 1000) (hl0 : 0 ≤ γ 0 4 j) (hl1 : γ 0 4 j ≤ 100) : Ct l yX8_rank cX8_rank 2 (some .int) E 200 20000 [.ref (E.ad 414), .int (iI (j : Int))] γ (pI (rk (γ 0 1 j) (γ 0 4 j) (γ 0 3 j)) γ) 0 0 := by
  refine Ct.of hE (by decide) (Nat.le_of_ble_eq_true rfl) (fun Φ hLn hΦ F hfr hlo => ?_)
  subst hLn; subst hΦ
  have h414 := F.ok.1.2.2
  have hrc := F.rc
  have hrs := F.rs
  show Wg Φ 2 _ 0 0 0 [(0, _), (1, _)] []
  refine w_rng (fun hR => ?_)
  refine w_aload_n F dX8_rank_0 rfl rfl ?_
  refine w_iload_n F dX8_rank_1 rfl ?_
  refine w_aload_n F dX8_rank_2 rfl rfl ?_
  refine w_get F (by omega) cell_mdO rfl in_X8 3 (by decide) (Or.inl q875) rfl dX8_rank_3 ?_
  refine w_iload_n F dX8_rank_6 rfl ?_
  first | refine w_ialdN F (aM3 _) (by omega) (by decide) (by omega) dX8_rank_7 ?_ | refine w_iald F (aM3 _) (by omega) (by decide) (by omega) (by omega) dX8_rank_7 ?_
  refine w_callV F (As := [_, _]) (ct_rankBy hE hm γ hj h0 h1 hl0 hl1) (lw_V q987 q989 qs47 q88 q990) md_X8_rankBy (by omega) cell_mdO rfl rfl rfl rfl (Nat.le_of_ble_eq_true rfl) dX8_rank_8 ⟨by omega, by omega⟩ ⟨by omega, by omega⟩ ?_
  rintro _ _ ⟨rfl, rfl⟩
  exact w_iret F (by omega) (by omega) (⟨rfl, rfl⟩) dX8_rank_11
end M1
