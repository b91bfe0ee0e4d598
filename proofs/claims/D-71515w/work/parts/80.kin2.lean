/-! the kinds: ranks through the interface -/
theorem kd_cell {E : EE} {key : Nat} (h : 7 ≤ key ∧ key ≤ 10) : (∀ γ : GG, cellOf E γ key = .inr (key - 4, [])) ∧ ∃ q, vwCl[key - 4]? = some q := by
  rcases (show key = 7 ∨ key = 8 ∨ key = 9 ∨ key = 10 by omega) with rfl | rfl | rfl | rfl
  · exact ⟨fun _ => rfl, _, rfl⟩
  · exact ⟨fun _ => rfl, _, rfl⟩
  · exact ⟨fun _ => rfl, _, rfl⟩
  · exact ⟨fun _ => rfl, _, rfl⟩
def yRk : MethodName := ⟨"DeadlineTree$Ranked", "rank", "(II)I"⟩
theorem md_Rk : MdOk yRk 2 := by unfold MdOk; decide +kernel
section KN2
variable {l : Launch} {E : EE}
theorem ct_rank4 (hE : EOk E) (γ : GG) {key : Nat} (hkey : 7 ≤ key ∧ key ≤ 10) {d n : Int} (hd : 0 ≤ d ∧ d ≤ 1000) (hn : 0 ≤ n ∧ n ≤ 100) : Ct l yX4_rank cX4_rank 3 (some .int) E 200 20000 [.ref (E.ad key), .int (iI d), .int (iI n)] γ (pI (d / 2) γ) 0 0 := by
  refine Ct.of hE (by decide) (Nat.le_of_ble_eq_true rfl) (fun Φ hLn hΦ F hfr hlo => ?_)
  subst hLn; subst hΦ
  have h414 := F.ok.1.2.2
  have hrc := F.rc
  have hrs := F.rs
  show Wg Φ 3 _ 0 0 0 [(0, _), (1, _), (2, _)] []
  refine w_rng (fun hR => ?_)
  obtain ⟨hkc, q, hkq⟩ := kd_cell (E := Φ.E) hkey
  refine w_aload_n F dX4_rank_0 rfl rfl ?_
  refine w_iload_n F dX4_rank_1 rfl ?_
  refine w_iload_n F dX4_rank_2 rfl ?_
  refine w_callSU F (As := [_, _]) (ct_rank3 hE γ ⟨_, rfl⟩ hd hn) (lw_SU q464 q1175 q209 q465 q73 q466) (by decide) md_X3_rank (by omega) (hkc _) hkq rfl rfl (Nat.le_of_ble_eq_true rfl) dX4_rank_3 ⟨by omega, by omega⟩ ⟨by omega, by omega⟩ ?_
  rintro _ _ ⟨rfl, rfl⟩
  refine w_iconst F dX4_rank_6 ?_
  refine w_idiv F dX4_rank_7 (by omega) (by first | assumption | exact inR0 | exact (hR _ _ _).1 | (constructor <;> omega)) (by decide) (by decide) ?_
  exact w_iret F (by omega) (by omega) (⟨rfl, rfl⟩) dX4_rank_8
theorem ct_rank5 (hE : EOk E) (γ : GG) {key : Nat} (hkey : 7 ≤ key ∧ key ≤ 10) {d n : Int} (hd : 0 ≤ d ∧ d ≤ 1000) (hn : 0 ≤ n ∧ n ≤ 100) : Ct l yX5_rank cX5_rank 3 (some .int) E 200 20000 [.ref (E.ad key), .int (iI d), .int (iI n)] γ (pI (d + n) γ) 0 0 := by
  refine Ct.of hE (by decide) (Nat.le_of_ble_eq_true rfl) (fun Φ hLn hΦ F hfr hlo => ?_)
  subst hLn; subst hΦ
  have h414 := F.ok.1.2.2
  have hrc := F.rc
  have hrs := F.rs
  show Wg Φ 3 _ 0 0 0 [(0, _), (1, _), (2, _)] []
  refine w_rng (fun hR => ?_)
  obtain ⟨hkc, q, hkq⟩ := kd_cell (E := Φ.E) hkey
  obtain ⟨a, rfl⟩ : ∃ a : Nat, d = (a : Int) := ⟨d.toNat, by omega⟩
  obtain ⟨b, rfl⟩ : ∃ b : Nat, n = (b : Int) := ⟨n.toNat, by omega⟩
  refine w_aload_n F dX5_rank_0 rfl rfl ?_
  refine w_iload_n F dX5_rank_1 rfl ?_
  refine w_iload_n F dX5_rank_2 rfl ?_
  refine w_callSU F (As := [_, _]) (ct_rank3 hE γ ⟨_, rfl⟩ hd hn) (lw_SU q476 q1175 q216 q465 q73 q466) (by decide) md_X3_rank (by omega) (hkc _) hkq rfl rfl (Nat.le_of_ble_eq_true rfl) dX5_rank_3 ⟨by omega, by omega⟩ ⟨by omega, by omega⟩ ?_
  rintro _ _ ⟨rfl, rfl⟩
  refine w_iload_n F dX5_rank_6 rfl ?_
  refine w_callS F (As := [_, _]) (ct_addX hE γ (by omega) (by omega)) (lw_S q477 q478 q86 q479) md_J8_addExact rfl rfl (Nat.le_of_ble_eq_true rfl) dX5_rank_7 ⟨by omega, by omega⟩ ⟨by omega, by omega⟩ ?_
  rintro _ _ ⟨rfl, rfl⟩
  exact w_iret F (by omega) (by omega) (⟨rfl, rfl⟩) dX5_rank_10
theorem ct_rank6 (hE : EOk E) (γ : GG) {key : Nat} (hkey : 7 ≤ key ∧ key ≤ 10) {d n : Int} (hd : 0 ≤ d ∧ d ≤ 1000) (hn : 0 ≤ n ∧ n ≤ 100) : Ct l yX6_rank cX6_rank 3 (some .int) E 300 24000 [.ref (E.ad key), .int (iI d), .int (iI n)] γ (pI (max 0 (d / 2 - n)) γ) 0 0 := by
  refine Ct.of hE (by decide) (Nat.le_of_ble_eq_true rfl) (fun Φ hLn hΦ F hfr hlo => ?_)
  subst hLn; subst hΦ
  have h414 := F.ok.1.2.2
  have hrc := F.rc
  have hrs := F.rs
  show Wg Φ 3 _ 0 0 0 [(0, _), (1, _), (2, _)] []
  refine w_rng (fun hR => ?_)
  obtain ⟨hkc, q, hkq⟩ := kd_cell (E := Φ.E) hkey
  refine w_iconst F dX6_rank_0 ?_
  refine w_aload_n F dX6_rank_1 rfl rfl ?_
  refine w_iload_n F dX6_rank_2 rfl ?_
  refine w_iload_n F dX6_rank_3 rfl ?_
  refine w_callSU F (As := [_, _]) (ct_rank4 hE γ hkey hd hn) (lw_SU q461 q1174 q223 q462 q74 q463) (by decide) md_X4_rank (by omega) (hkc _) hkq rfl rfl (Nat.le_of_ble_eq_true rfl) dX6_rank_4 ⟨by omega, by omega⟩ ⟨by omega, by omega⟩ ?_
  rintro _ _ ⟨rfl, rfl⟩
  refine w_iload_n F dX6_rank_7 rfl ?_
  refine w_isub F dX6_rank_8 ?_
  refine w_callS F (As := [_, _]) (ct_max hE γ (by omega) (by omega)) (lw_S q467 q468 q86 q469) md_J8_max rfl rfl (Nat.le_of_ble_eq_true rfl) dX6_rank_9 ⟨by omega, by omega⟩ ⟨by omega, by omega⟩ ?_
  rintro _ _ ⟨rfl, rfl⟩
  exact w_iret F (by omega) (by omega) (⟨rfl, rfl⟩) dX6_rank_12
theorem ct_isAhead (hE : EOk E) (γ : GG) {a : Nat} {r i s j : Int} (h1 : InR r) (h2 : InR i) (h3 : InR s) (h4 : InR j) : Ct l yX9_isAhead cX9_isAhead 5 (some .boolean) E 100 16000 [.ref a, .int (iI r), .int (iI i), .int (iI s), .int (iI j)] γ (pI (b2i (r < s ∨ r = s ∧ i < j)) γ) 0 0 := by
  refine Ct.of hE (by decide) (Nat.le_of_ble_eq_true rfl) (fun Φ hLn hΦ F hfr hlo => ?_)
  subst hLn; subst hΦ
  have h414 := F.ok.1.2.2
  have hrc := F.rc
  have hrs := F.rs
  show Wg Φ 5 _ 0 0 0 [(0, _), (1, _), (2, _), (3, _), (4, _)] []
  refine w_rng (fun hR => ?_)
  have hz := b2i_01 (r < s ∨ r = s ∧ i < j)
  have hno : ¬ (r < s ∨ r = s ∧ i < j) → Wg Φ 5 γ 0 0 20 [(0, .ref a), (1, .int (iI r)), (2, .int (iI i)), (3, .int (iI s)), (4, .int (iI j))] [] := by
    intro hn
    refine w_iconst F dX9_isAhead_20 ?_
    refine w_top (z' := b2i (r < s ∨ r = s ∧ i < j)) (b2i_f hn).symm ?_
    exact w_zret F (by first | exact Or.inl rfl | exact Or.inr rfl | assumption | omega) (by omega) (by omega) (⟨rfl, rfl⟩) dX9_isAhead_21
  have hye : (r < s ∨ r = s ∧ i < j) → Wg Φ 5 γ 0 0 16 [(0, .ref a), (1, .int (iI r)), (2, .int (iI i)), (3, .int (iI s)), (4, .int (iI j))] [] := by
    intro hn
    refine w_iconst F dX9_isAhead_16 ?_
    refine w_goto F (tgt := 21) dX9_isAhead_17 (by decide) ?_
    refine w_top (z' := b2i (r < s ∨ r = s ∧ i < j)) (b2i_t hn).symm ?_
    exact w_zret F (by first | exact Or.inl rfl | exact Or.inr rfl | assumption | omega) (by omega) (by omega) (⟨rfl, rfl⟩) dX9_isAhead_21
  refine w_iload_n F dX9_isAhead_0 rfl ?_
  refine w_iload_n F dX9_isAhead_1 rfl ?_
  refine w_icmp_lt F (tgt := 16) dX9_isAhead_2 (by decide) (by first | assumption | exact inR0 | exact (hR _ _ _).1 | (constructor <;> omega)) (by first | assumption | exact inR0 | exact (hR _ _ _).1 | (constructor <;> omega)) (fun h => ?_) (fun h => ?_)
  · exact hye (Or.inl h)
  · refine w_iload_n F dX9_isAhead_5 rfl ?_
    refine w_iload_n F dX9_isAhead_6 rfl ?_
    refine w_icmp_ne F (tgt := 20) dX9_isAhead_7 (by decide) (by first | assumption | exact inR0 | exact (hR _ _ _).1 | (constructor <;> omega)) (by first | assumption | exact inR0 | exact (hR _ _ _).1 | (constructor <;> omega)) (fun h5 => ?_) (fun h5 => ?_)
    · exact hno (by omega)
    · refine w_iload_n F dX9_isAhead_10 rfl ?_
      refine w_iload F dX9_isAhead_11 rfl ?_
      refine w_icmp_ge F (tgt := 20) dX9_isAhead_13 (by decide) (by first | assumption | exact inR0 | exact (hR _ _ _).1 | (constructor <;> omega)) (by first | assumption | exact inR0 | exact (hR _ _ _).1 | (constructor <;> omega)) (fun h6 => ?_) (fun h6 => ?_)
      · exact hno (by omega)
      · exact hye (by omega)
end KN2
section KR
variable {Φ : PH} {cc : ByteArray} {own : String} {nL : Nat} {ret : Option FieldType} {post : Option Value → GG → Prop} {mc ms : Nat} {γ : GG} {k n pc : Nat} {lv lv' : List (Nat × Value)} {st rest : List Value}
theorem w_kindsN (F : Fx Φ cc own nL ret post mc ms) (hk : 1 < Φ.E.nk) {j : Nat} (h1 : j < 4) (hdg : decode cc pc = .ok (.aaload, 1)) (h : Wg Φ nL γ k n (pc + 1) lv (.ref (Φ.E.ad (7 + j)) :: st)) : Wg Φ nL γ k n pc lv (.int (iI (j : Int)) :: .ref (Φ.E.ad 1) :: st) := w_aald F (key := 1) (t := 2) (cell_dt (by omega)) hk rfl (by decide) (z := (j : Int)) (by omega) (by omega) hdg h
theorem w_rankI (F : Fx Φ cc own nL ret post mc ms) {index count a : Nat} (ha : a < 4) {d ln : Int} (hd : 0 ≤ d ∧ d ≤ 1000) (hn : 0 ≤ ln ∧ ln ≤ 100) (hl : Cond.methodLink own index yRk ∈ lw_all) (hcat : (rest.map fun v => v.category).sum ≤ 8) (hdg : decode cc pc = .ok (.invokeinterface index count, 5)) (hR : 301 ≤ Φ.R.frames ∧ 24022 ≤ Φ.R.locals) (hf : k ≤ Φ.R.cells ∧ n ≤ Φ.R.slots)
    (kk : Wg Φ nL γ k n (pc + 5) lv (.int (iI (rk (a : Int) ln d)) :: rest)) : Wg Φ nL γ k n pc lv (.int (iI ln) :: .int (iI d) :: .ref (Φ.E.ad (7 + a)) :: rest) := by
  have h414 := F.ok.1.2.2
  rcases (show a = 0 ∨ a = 1 ∨ a = 2 ∨ a = 3 by omega) with rfl | rfl | rfl | rfl
  · refine w_callF F (As := [_, _]) (ct_rank3 F.ok γ ⟨_, rfl⟩ hd hn) (x := yRk) (lw_F hl q481 q465 q73 q466) ⟨F.ok.2.2 _ q454, F.ok.2.2 _ q453, F.ok.2.2 _ q483, F.ok.2.2 _ q482, F.ok.2.2 _ q480⟩ md_Rk (by omega) rfl rfl rfl rfl rfl hcat hdg ⟨by omega, by omega⟩ ⟨by omega, by omega⟩ ?_
    rintro _ _ ⟨rfl, rfl⟩
    exact kk
  · refine w_callF F (As := [_, _]) (ct_rank4 F.ok γ ⟨by omega, by omega⟩ hd hn) (x := yRk) (lw_F hl q485 q462 q74 q463) ⟨F.ok.2.2 _ q454, F.ok.2.2 _ q453, F.ok.2.2 _ q487, F.ok.2.2 _ q486, F.ok.2.2 _ q484⟩ md_Rk (by omega) rfl rfl rfl rfl rfl hcat hdg ⟨by omega, by omega⟩ ⟨by omega, by omega⟩ ?_
    rintro _ _ ⟨rfl, rfl⟩
    exact kk
  · refine w_callF F (As := [_, _]) (ct_rank5 F.ok γ ⟨by omega, by omega⟩ hd hn) (x := yRk) (lw_F hl q471 q473 q75 q475) ⟨F.ok.2.2 _ q454, F.ok.2.2 _ q453, F.ok.2.2 _ q474, F.ok.2.2 _ q472, F.ok.2.2 _ q470⟩ md_Rk (by omega) rfl rfl rfl rfl rfl hcat hdg ⟨by omega, by omega⟩ ⟨by omega, by omega⟩ ?_
    rintro _ _ ⟨rfl, rfl⟩
    exact kk
  · refine w_callF F (As := [_, _]) (ct_rank6 F.ok γ ⟨by omega, by omega⟩ hd hn) (x := yRk) (lw_F hl q456 q458 q76 q460) ⟨F.ok.2.2 _ q454, F.ok.2.2 _ q453, F.ok.2.2 _ q459, F.ok.2.2 _ q457, F.ok.2.2 _ q455⟩ md_Rk (by omega) rfl rfl rfl rfl rfl hcat hdg ⟨by omega, by omega⟩ ⟨by omega, by omega⟩ ?_
    rintro _ _ ⟨rfl, rfl⟩
    refine w_top (z' := rk ((3 : Nat) : Int) ln d) ?_ kk
    unfold rk
    rw [if_neg (by omega), if_neg (by omega), if_pos (by omega)]
    split <;> omega
end KR
/-- the row of a call of isAhead on a kind's object: shown once, later -/
def AhOk (l : Launch) (E : EE) : Prop := ∀ (Φ : PH) (cc : ByteArray) (own : String) (nL : Nat) (ret : Option FieldType) (post : Option Value → GG → Prop) (mc ms : Nat) (γ : GG) (k n pc : Nat) (lv : List (Nat × Value)) (rest : List Value) (index count a : Nat) (r i s j : Int), Φ.l = l → Φ.E = E → Fx Φ cc own nL ret post mc ms → a < 4 → InR r → InR i → InR s → InR j → Cond.methodLink own index yX9_isAhead ∈ lw_all → (rest.map fun v => v.category).sum ≤ 8 → decode cc pc = .ok (.invokeinterface index count, 5) → (101 ≤ Φ.R.frames ∧ 16024 ≤ Φ.R.locals) → (k ≤ Φ.R.cells ∧ n ≤ Φ.R.slots) → Wg Φ nL γ k n (pc + 5) lv (.int (iI (b2i (r < s ∨ r = s ∧ i < j))) :: rest) → Wg Φ nL γ k n pc lv (.int (iI j) :: .int (iI s) :: .int (iI i) :: .int (iI r) :: .ref (Φ.E.ad (7 + a)) :: rest)
