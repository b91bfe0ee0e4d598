/-! State: push, pull, vacate -/
/-- the rows of a call of holdOf: on a node; on none (an object made, thrown and caught): shown once, later -/
def HoOk (l : Launch) (E : EE) : Prop := (∀ (Φ : PH) (cc : ByteArray) (own : String) (nL : Nat) (ret : Option FieldType) (post : Option Value → GG → Prop) (mc ms : Nat) (γ : GG) (k n pc : Nat) (lv : List (Nat × Value)) (rest : List Value) (index i x : Nat), Φ.l = l → Φ.E = E → Fx Φ cc own nL ret post mc ms → i < 13 → x < 23 → Cond.methodLinkNest own index yX0_holdOf "DeadlineTree" ∈ lw_tbl → (rest.map fun v => v.category).sum ≤ 8 → decode cc pc = .ok (.invokestatic index, 3) → (200 ≤ Φ.R.frames ∧ 20000 ≤ Φ.R.locals) → (k ≤ Φ.R.cells ∧ n ≤ Φ.R.slots) → Wg Φ nL γ k n (pc + 3) lv (.int (iI (γ (2 + i) 25 x)) :: rest) → Wg Φ nL γ k n pc lv (.ref (Φ.E.ad (19 + 31 * i + x)) :: rest)) ∧
  (∀ (Φ : PH) (cc : ByteArray) (own : String) (nL : Nat) (ret : Option FieldType) (post : Option Value → GG → Prop) (mc ms : Nat) (γ : GG) (k n pc : Nat) (lv : List (Nat × Value)) (rest : List Value) (index : Nat), Φ.l = l → Φ.E = E → Fx Φ cc own nL ret post mc ms → Cond.methodLinkNest own index yX0_holdOf "DeadlineTree" ∈ lw_tbl → (rest.map fun v => v.category).sum ≤ 8 → decode cc pc = .ok (.invokestatic index, 3) → (200 ≤ Φ.R.frames ∧ 20000 ≤ Φ.R.locals) → (k + 1 ≤ Φ.R.cells ∧ n + 16 ≤ Φ.R.slots) → Wg Φ nL γ (k + 1) (n + 16) (pc + 3) lv (.int (iI (-4)) :: rest) → Wg Φ nL γ k n pc lv (.null :: rest))
theorem ahd_b {T : Nat → Nat → Int} {i j : Nat} : (rkT T i < rkT T j ∨ rkT T i = rkT T j ∧ (i : Int) < (j : Int)) ↔ ahd (rkT T) i j := by unfold ahd; omega
section S2
variable {l : Launch} {E : EE}
theorem ct_push (hE : EOk E) (hA : AhOk l E) {k : Nat} (hk : k < 13) {T : Nat → Nat → Int} : ∀ (t : TT) (x : Nat) (S : Nat → Bool) (ns : List Nat) (j : Nat) (γ : GG), RC T (γ (2 + k)) t x S ns → ns.Nodup → OrdT (keyT T) t → (tl t).Nodup → (∀ i ∈ tl t, JC T (γ (2 + k)) i) → j ∈ tl t → S j = false → Ct l yX1_push cX1_push 4 none E (600 + nn t) (36000 + 40 * nn t) [.ref (E.ad (11 + 31 * k)), .ref (E.ad (19 + 31 * k + x)), .int (iI (j : Int))] γ (fun r g => r = none ∧ RC T (g (2 + k)) t x (ad1 S j) ns ∧ OffS k (fun f i => f = 25 ∧ i ∈ ns) γ g) 0 0 := by
  intro t
  induction t with
  | leaf q =>
    intro x S ns j γ hr hn hO hN hJ hj hs
    refine Ct.of hE (by decide) (Nat.le_of_ble_eq_true rfl) (fun Φ hLn hΦ F hfr hlo => ?_)
    subst hLn; subst hΦ
    have h414 := F.ok.1.2.2
    have hrc := F.rc
    have hrs := F.rs
    show Wg Φ 4 _ 0 0 0 [(0, _), (1, _), (2, _)] []
    refine w_rng (fun hR => ?_)
    have hx := hr.lt
    have hj' : j = q := by simpa [tl] using hj
    have h0 : bst (rkT T) S (tl (.leaf q)) = -4 := by
      refine Classical.byContradiction (fun hne => ?_)
      obtain ⟨i, q1, q2, q3⟩ := bst_nat hne
      have : i = j := by rw [hj']; simpa [tl] using q2
      rw [this, hs] at q3
      cases q3
    have j1 := (hJ j hj).1
    refine w_aload_n F dX1_push_0 rfl rfl ?_
    refine w_getF F (fN5 _ (by omega) (by omega)) (by omega) rfl in_X2 (by decide) (Or.inr q128) dX1_push_1 ?_
    refine w_top (z' := -4) (by rw [hr.hold]; exact h0) ?_
    refine w_bipush F dX1_push_4 rfl ?_
    refine w_icmp_ne F (tgt := 15) dX1_push_6 (by decide) (by first | assumption | exact inR0 | exact (hR _ _ _).1 | (constructor <;> omega)) (by first | assumption | exact inR0 | exact (hR _ _ _).1 | (constructor <;> omega)) (fun h => ?_) (fun h => ?_)
    · omega
    · refine w_aload_n F dX1_push_9 rfl rfl ?_
      refine w_iload_n F dX1_push_10 rfl ?_
      refine w_putF F (fN5 _ (by omega) (by omega)) (by omega) rfl in_X2 tyX2 tyX2_ok nmX2 (by decide) (Or.inr q128) rfl rfl rfl (by first | assumption | exact inR0 | exact (hR _ _ _).1 | (constructor <;> omega)) (noB rfl) (noP rfl) dX1_push_11 ?_
      have o : OffS k (fun f i => f = 25 ∧ i ∈ ns) γ (gu γ (2 + k) 25 x (j : Int)) := OffS.rf.up ⟨rfl, hr.me⟩
      exact w_vret F (by omega) (by omega) (⟨rfl, hr.push0 hn h0 hj (gu_s _ _ _ _ _) (fun f z q => gu_n (fun w => q ⟨w.2.1, w.2.2⟩)), o⟩) dX1_push_14
  | branch s a b iha ihb =>
    intro x S ns j γ hr hn hO hN hJ hj hs
    refine Ct.of hE (by decide) (Nat.le_of_ble_eq_true rfl) (fun Φ hLn hΦ F hfr hlo => ?_)
    subst hLn; subst hΦ
    have h414 := F.ok.1.2.2
    have hrc := F.rc
    have hrs := F.rs
    show Wg Φ 4 _ 0 0 0 [(0, _), (1, _), (2, _)] []
    refine w_rng (fun hR => ?_)
    have hx := hr.lt
    have hhold := hr.hold
    have j1 := (hJ j hj).1
    have hnn : nn (.branch s a b) = 1 + nn a + nn b := rfl
    by_cases h0 : bst (rkT T) S (tl (.branch s a b)) = -4
    · refine w_aload_n F dX1_push_0 rfl rfl ?_
      refine w_getF F (fN5 _ (by omega) (by omega)) (by omega) rfl in_X2 (by decide) (Or.inr q128) dX1_push_1 ?_
      refine w_top (z' := -4) (by rw [hhold]; exact h0) ?_
      refine w_bipush F dX1_push_4 rfl ?_
      refine w_icmp_ne F (tgt := 15) dX1_push_6 (by decide) (by first | assumption | exact inR0 | exact (hR _ _ _).1 | (constructor <;> omega)) (by first | assumption | exact inR0 | exact (hR _ _ _).1 | (constructor <;> omega)) (fun h => ?_) (fun h => ?_)
      · omega
      · refine w_aload_n F dX1_push_9 rfl rfl ?_
        refine w_iload_n F dX1_push_10 rfl ?_
        refine w_putF F (fN5 _ (by omega) (by omega)) (by omega) rfl in_X2 tyX2 tyX2_ok nmX2 (by decide) (Or.inr q128) rfl rfl rfl (by first | assumption | exact inR0 | exact (hR _ _ _).1 | (constructor <;> omega)) (noB rfl) (noP rfl) dX1_push_11 ?_
        have o : OffS k (fun f i => f = 25 ∧ i ∈ ns) γ (gu γ (2 + k) 25 x (j : Int)) := OffS.rf.up ⟨rfl, hr.me⟩
        exact w_vret F (by omega) (by omega) (⟨rfl, hr.push0 hn h0 hj (gu_s _ _ _ _ _) (fun f z q => gu_n (fun w => q ⟨w.2.1, w.2.2⟩)), o⟩) dX1_push_14
    · obtain ⟨i, hi, hi2, hi3⟩ := bst_nat h0
      have hi1 := (hJ i hi2).1
      obtain ⟨xa, xb, na, nb, e, h1, h2, h3, h4, h5, h6, h7, h8⟩ := id hr
      have hN' := List.nodup_append.mp hN
      have hxa := h7.lt
      have hxb := h8.lt
      obtain ⟨o1, o2, _, _, o5, o6⟩ := id hO
      have hn1 := List.nodup_cons.mp (e ▸ hn)
      have hn2 := List.nodup_append.mp hn1.2
      have hhi : γ (2 + k) 25 x = (i : Int) := by rw [hhold]; exact hi
      have fin : ∀ (w lo : Nat) (g : GG), ((ahd (rkT T) j i ∧ w = j ∧ lo = i) ∨ (¬ ahd (rkT T) j i ∧ w = i ∧ lo = j)) → g (2 + k) 25 x = (w : Int) → OffS k (fun f z => f = 25 ∧ z = x) γ g → Wg Φ 4 g 0 0 39 [(0, .ref (Φ.E.ad (11 + 31 * k))), (1, .ref (Φ.E.ad (19 + 31 * k + x))), (2, .int (iI (j : Int))), (3, .int (iI (lo : Int)))] [] := by
        intro w lo g hwl hg1 hg2
        obtain ⟨p1, p2, p3, p4⟩ := push_wl hi hj hs hwl
        have hJl := hJ lo p3
        have hJg : ∀ q ∈ tl (.branch s a b), JC T (g (2 + k)) q := fun q hq => (hJ q hq).off hg2 (fun f z w => by omega)
        have hJlg := hJg lo p3
        have l1 := hJl.1
        have lt := hJl.2.2.2.1.1
        have g23 : ∀ f, f ≠ 25 → g (2 + k) f x = γ (2 + k) f x := fun f hf => hg2.s (by omega)
        have hgl := gl_key (γ := g) (k := k) (x := x) (T := T) (s := s) (j := lo) (by rw [g23 23 (by decide), g23 24 (by decide)]; exact h4) l1 lt
        refine w_aload_n F dX1_push_39 rfl rfl ?_
        refine w_aload_n F dX1_push_40 rfl rfl ?_
        refine w_aload_n F dX1_push_41 rfl rfl ?_
        refine w_iload_n F dX1_push_42 rfl ?_
        refine w_callV F (As := [_, _]) (ct_partS hE g hk hx hJlg) (lw_V q426 q428 qs9 q71 q429) md_X1_part (by omega) (cell_stO (by omega)) rfl rfl rfl rfl (Nat.le_of_ble_eq_true rfl) dX1_push_43 ⟨by omega, by omega⟩ ⟨by omega, by omega⟩ ?_
        rintro _ _ ⟨rfl, rfl⟩
        by_cases hc : keyT T lo ≤ s
        · have hla : lo ∈ tl a := by
            rcases List.mem_append.mp p3 with q | q
            · exact q
            · have := o2 lo q; omega
          rw [if_pos (hgl.mpr hc), g23 21 (by decide)]
          refine w_toN h2 ?_
          refine w_iload_n F dX1_push_46 rfl ?_
          have ra : RC T (g (2 + k)) a xa (wo S (i : Int)) na := by
            rw [show bst (rkT T) S (tl a ++ tl b) = (i : Int) from hi] at h7
            exact h7.cg (fun z hz f _ _ => hg2.s (fun q => hn1.1 (by rw [← q.2]; exact List.mem_append_left _ hz)))
          refine w_callV F (As := [_, _]) (iha xa (wo S (i : Int)) na lo g ra hn2.1 o5 hN'.1 (fun q hq => hJg q (List.mem_append_left _ hq)) hla p4) (lw_V q439 q441 qs10 q71 q442) md_X1_push (by omega) (cell_stO (by omega)) rfl rfl rfl rfl (Nat.le_of_ble_eq_true rfl) dX1_push_47 ⟨by omega, by omega⟩ ⟨by omega, by omega⟩ ?_
          rintro _ g2 ⟨rfl, r2, of2⟩
          have hx2 : g2 (2 + k) 25 x = (w : Int) := by rw [of2.s (fun q => hn1.1 (List.mem_append_left _ q.2))]; exact hg1
          have oo : OffS k (fun f z => f = 25 ∧ (z = x ∨ z ∈ na)) γ g2 := (hg2.mono (fun f z q => ⟨q.1, Or.inl q.2⟩)).tr (of2.mono (fun f z q => ⟨q.1, Or.inr q.2⟩))
          exact w_vret F (by omega) (by omega) (⟨rfl, RC.pushL e hn h1 h2 h3 h4 h5 h8 hi hj hs hwl hN hla hx2 (fun f z q => oo.s q) r2, oo.mono (fun f z q => ⟨q.1, by rw [e]; rcases q.2 with w | w; rw [w]; exact List.mem_cons_self; exact List.mem_cons_of_mem _ (List.mem_append_left _ w)⟩)⟩) dX1_push_50
        · have hlb : lo ∈ tl b := by
            rcases List.mem_append.mp p3 with q | q
            · have := o1 lo q; omega
            · exact q
          rw [if_neg (fun q => hc (hgl.mp q)), g23 22 (by decide)]
          refine w_toN h3 ?_
          refine w_iload_n F dX1_push_46 rfl ?_
          have rb : RC T (g (2 + k)) b xb (wo S (i : Int)) nb := by
            rw [show bst (rkT T) S (tl a ++ tl b) = (i : Int) from hi] at h8
            exact h8.cg (fun z hz f _ _ => hg2.s (fun q => hn1.1 (by rw [← q.2]; exact List.mem_append_right _ hz)))
          refine w_callV F (As := [_, _]) (ihb xb (wo S (i : Int)) nb lo g rb hn2.2.1 o6 hN'.2.1 (fun q hq => hJg q (List.mem_append_right _ hq)) hlb p4) (lw_V q439 q441 qs10 q71 q442) md_X1_push (by omega) (cell_stO (by omega)) rfl rfl rfl rfl (Nat.le_of_ble_eq_true rfl) dX1_push_47 ⟨by omega, by omega⟩ ⟨by omega, by omega⟩ ?_
          rintro _ g2 ⟨rfl, r2, of2⟩
          have hx2 : g2 (2 + k) 25 x = (w : Int) := by rw [of2.s (fun q => hn1.1 (List.mem_append_right _ q.2))]; exact hg1
          have oo : OffS k (fun f z => f = 25 ∧ (z = x ∨ z ∈ nb)) γ g2 := (hg2.mono (fun f z q => ⟨q.1, Or.inl q.2⟩)).tr (of2.mono (fun f z q => ⟨q.1, Or.inr q.2⟩))
          exact w_vret F (by omega) (by omega) (⟨rfl, RC.pushR e hn h1 h2 h3 h4 h5 h7 hi hj hs hwl hN hlb hx2 (fun f z q => oo.s q) r2, oo.mono (fun f z q => ⟨q.1, by rw [e]; rcases q.2 with w | w; rw [w]; exact List.mem_cons_self; exact List.mem_cons_of_mem _ (List.mem_append_right _ w)⟩)⟩) dX1_push_50
      refine w_aload_n F dX1_push_0 rfl rfl ?_
      refine w_getF F (fN5 _ (by omega) (by omega)) (by omega) rfl in_X2 (by decide) (Or.inr q128) dX1_push_1 ?_
      refine w_top hhi ?_
      refine w_bipush F dX1_push_4 rfl ?_
      refine w_icmp_ne F (tgt := 15) dX1_push_6 (by decide) (by first | assumption | exact inR0 | exact (hR _ _ _).1 | (constructor <;> omega)) (by first | assumption | exact inR0 | exact (hR _ _ _).1 | (constructor <;> omega)) (fun h => ?_) (fun h => ?_)
      · refine w_iload_n F dX1_push_15 rfl ?_
        refine w_istore_n F dX1_push_16 (by decide) rfl (lv' := [(0, _), (1, _), (2, _), (3, _)]) rfl ?_
        refine w_aload_n F dX1_push_17 rfl rfl ?_
        refine w_iload_n F dX1_push_18 rfl ?_
        refine w_aload_n F dX1_push_19 rfl rfl ?_
        refine w_getF F (fN5 _ (by omega) (by omega)) (by omega) rfl in_X2 (by decide) (Or.inr q128) dX1_push_20 ?_
        refine w_top hhi ?_
        refine w_callV F (As := [_, _]) (ct_isDueAhead hE hA γ hk (hJ j hj) (hJ i hi2)) (lw_V q443 q444 q445 q71 q446) md_X1_isDueAhead (by omega) (cell_stO (by omega)) rfl rfl rfl rfl (Nat.le_of_ble_eq_true rfl) dX1_push_23 ⟨by omega, by omega⟩ ⟨by omega, by omega⟩ ?_
        rintro _ _ ⟨rfl, rfl⟩
        refine w_if_eq F (tgt := 39) dX1_push_26 (by decide) (b2i_R _) (fun hh => ?_) (fun hh => ?_)
        · rw [b2i_0, ahd_b] at hh
          exact fin i j γ (Or.inr ⟨hh, rfl, rfl⟩) hhi OffS.rf
        · rw [b2i_n0, ahd_b] at hh
          refine w_aload_n F dX1_push_29 rfl rfl ?_
          refine w_getF F (fN5 _ (by omega) (by omega)) (by omega) rfl in_X2 (by decide) (Or.inr q128) dX1_push_30 ?_
          refine w_top hhi ?_
          refine w_istore_n F dX1_push_33 (by decide) rfl (lv' := [(0, _), (1, _), (2, _), (3, _)]) rfl ?_
          refine w_aload_n F dX1_push_34 rfl rfl ?_
          refine w_iload_n F dX1_push_35 rfl ?_
          refine w_putF F (fN5 _ (by omega) (by omega)) (by omega) rfl in_X2 tyX2 tyX2_ok nmX2 (by decide) (Or.inr q128) rfl rfl rfl (by first | assumption | exact inR0 | exact (hR _ _ _).1 | (constructor <;> omega)) (noB rfl) (noP rfl) dX1_push_36 ?_
          exact fin j i _ (Or.inl ⟨hh, rfl, rfl⟩) (gu_s _ _ _ _ _) (OffS.rf.up ⟨rfl, rfl⟩)
      · omega
end S2
