/-! the kinds' ranks; who is ahead -/
section KN
variable {l : Launch} {E : EE}
theorem ct_addX (hE : EOk E) (γ : GG) {a b : Nat} (ha : a < 1000000) (hb : b < 1000000) : Ct l yJ8_addExact cJ8_addExact 3 (some .int) E 100 16000 [.int (iI (a : Int)), .int (iI (b : Int))] γ (pI ((a : Int) + b) γ) 0 0 := by
  refine Ct.ofF hE (by decide +kernel) (Nat.le_of_ble_eq_true rfl) (fun Φ hLn hΦ F hfr hlo => ?_)
  subst hLn; subst hΦ
  have h414 := F.ok.1.2.2
  have hrc := F.rc
  have hrs := F.rs
  show Wg Φ 3 _ 0 0 0 [(0, _), (1, _)] []
  refine w_rng (fun hR => ?_)
  refine w_iload_n F dJ8_addExact_0 rfl ?_
  refine w_iload_n F dJ8_addExact_1 rfl ?_
  refine w_iadd F dJ8_addExact_2 ?_
  refine w_top (z' := ((a + b : Nat) : Int)) (by omega) ?_
  have h1 : (a ^^^ (a + b)) < 2 ^ 21 := Nat.xor_lt_two_pow (by omega) (by omega)
  have h2 : ((a ^^^ (a + b)) &&& (b ^^^ (a + b))) ≤ a ^^^ (a + b) := Nat.and_le_left
  refine w_istore_n F dJ8_addExact_3 (by decide) rfl (lv' := [(0, _), (1, _), (2, _)]) rfl ?_
  refine w_iload_n F dJ8_addExact_4 rfl ?_
  refine w_iload_n F dJ8_addExact_5 rfl ?_
  first | refine w_inot F dJ8_addExact_6 ?_ | refine w_ixorN F dJ8_addExact_6 ?_
  refine w_iload_n F dJ8_addExact_7 rfl ?_
  refine w_iload_n F dJ8_addExact_8 rfl ?_
  first | refine w_inot F dJ8_addExact_9 ?_ | refine w_ixorN F dJ8_addExact_9 ?_
  first | refine w_iandC F (by omega) dJ8_addExact_10 ?_ | refine w_iand F dJ8_addExact_10 ?_
  refine w_if_ge F (tgt := 24) dJ8_addExact_11 (by decide) (by first | assumption | exact inR0 | exact (hR _ _ _).1 | (constructor <;> omega)) (fun h => ?_) (fun h => ?_)
  · refine w_iload_n F dJ8_addExact_24 rfl ?_
    exact w_iret F (by omega) (by omega) (⟨by rw [show ((a + b : Nat) : Int) = (a : Int) + b by omega], rfl⟩) dJ8_addExact_25
  · omega
theorem ct_rank3 (hE : EOk E) (γ : GG) {o : Value} (ho : ∃ a, o = .ref a) {d n : Int} (hd : 0 ≤ d ∧ d ≤ 1000) (hn : 0 ≤ n ∧ n ≤ 100) : Ct l yX3_rank cX3_rank 3 (some .int) E 100 16000 [o, .int (iI d), .int (iI n)] γ (pI d γ) 0 0 := by
  obtain ⟨a, rfl⟩ := ho
  refine Ct.of hE (by decide) (Nat.le_of_ble_eq_true rfl) (fun Φ hLn hΦ F hfr hlo => ?_)
  subst hLn; subst hΦ
  have h414 := F.ok.1.2.2
  have hrc := F.rc
  have hrs := F.rs
  show Wg Φ 3 _ 0 0 0 [(0, _), (1, _), (2, _)] []
  refine w_rng (fun hR => ?_)
  refine w_iload_n F dX3_rank_0 rfl ?_
  exact w_iret F (by omega) (by omega) (⟨rfl, rfl⟩) dX3_rank_1
end KN
