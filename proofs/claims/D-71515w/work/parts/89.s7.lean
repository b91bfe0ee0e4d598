/-! State: replace, level -/
def pz : Option (Nat × Bool) → Int
  | none => -1
  | some q => (q.1 : Int)
def rpl (γ : GG) (k : Nat) (pa : Option (Nat × Bool)) (y' : Nat) : GG := match pa with
  | none => gu γ (2 + k) 2 0 (y' : Int)
  | some (p, true) => gu γ (2 + k) 21 p (y' : Int)
  | some (p, false) => gu γ (2 + k) 22 p (y' : Int)
theorem rpl_n (γ : GG) (k : Nat) (pa : Option (Nat × Bool)) (y' f z : Nat) (hf : 21 ≤ f) : rpl γ k pa y' (2 + k) f z = if pa = some (z, true) ∧ f = 21 then (y' : Int) else if pa = some (z, false) ∧ f = 22 then (y' : Int) else γ (2 + k) f z := by
  unfold rpl
  split
  · rw [gu_f (by omega), if_neg (by simp), if_neg (by simp)]
  · rename_i p
    by_cases e : f = 21 ∧ z = p
    · obtain ⟨e1, e2⟩ := e
      subst e1; subst e2
      rw [gu_s, if_pos ⟨rfl, rfl⟩]
    · rw [gu_n (by omega), if_neg (fun q => e ⟨q.2, by have := q.1; simp at this; exact this.symm⟩), if_neg (by simp)]
  · rename_i p
    by_cases e : f = 22 ∧ z = p
    · obtain ⟨e1, e2⟩ := e
      subst e1; subst e2
      rw [gu_s, if_neg (by simp), if_pos ⟨rfl, rfl⟩]
    · rw [gu_n (by omega), if_neg (by simp), if_neg (fun q => e ⟨q.2, by have := q.1; simp at this; exact this.symm⟩)]
theorem rpl_root (γ : GG) (k : Nat) (pa : Option (Nat × Bool)) (y' : Nat) : rpl γ k pa y' (2 + k) 2 0 = if pa = none then (y' : Int) else γ (2 + k) 2 0 := by
  unfold rpl
  split
  · rw [gu_s, if_pos rfl]
  · rw [gu_f (by decide), if_neg (by simp)]
  · rw [gu_f (by decide), if_neg (by simp)]
theorem rpl_off (γ : GG) (k : Nat) (pa : Option (Nat × Bool)) (y' : Nat) : OffS k (fun f i => f = 2 ∨ (f = 21 ∧ pa = some (i, true)) ∨ (f = 22 ∧ pa = some (i, false))) γ (rpl γ k pa y') := by
  unfold rpl
  split
  · exact OffS.rf.up (Or.inl rfl)
  · exact OffS.rf.up (Or.inr (Or.inl ⟨rfl, rfl⟩))
  · exact OffS.rf.up (Or.inr (Or.inr ⟨rfl, rfl⟩))
/-- what stands at a place is put anew -/
theorem Foc.put {T σ σ1 σ2 : Nat → Nat → Int} {δ : Int} {x : Nat} {S0 : Nat → Bool} {C : TT → TT} {pre post : List Nat} {pa : Option (Nat × Bool)} {u u' : TT} {y y' : Nat} {S : Nat → Bool} {nu ns' : List Nat} (F : Foc T σ δ x S0 C pre post pa u y S nu) (hr : RC T σ1 u' y' S ns') (hn' : ns'.Nodup) (hd : ∀ z ∈ ns', z ∉ pre ∧ z ∉ post) (hoff : ∀ z ∈ pre ++ post, SmN σ σ1 z) (hl : ((tl u').length : Int) = (tl u).length + δ) (hm : ∀ i, S0 i = true → (i ∈ tl u' ↔ i ∈ tl u))
    (h2 : ∀ f z, 21 ≤ f → f ≤ 26 → σ2 f z = if pa = some (z, true) ∧ f = 21 then (y' : Int) else if pa = some (z, false) ∧ f = 22 then (y' : Int) else σ1 f z) : RC T σ2 (C u') (if pa = none then y' else x) S0 (pre ++ ns' ++ post) ∧ (pre ++ ns' ++ post).Nodup := by
  obtain ⟨f1, f2, f3, f4, f5, f6, f7⟩ := F
  constructor
  · refine f6 σ2 u' y' ns' (fun z hz f q1 q2 => ?_) hl hm (hr.cg (fun z hz f q1 q2 => ?_))
    · rw [h2 f z q1 q2, hoff z hz f q1 q2]
    · rw [h2 f z q1 q2, if_neg (fun q => (hd z hz).1 (f7 z true q.1)), if_neg (fun q => (hd z hz).1 (f7 z false q.1))]
  · rw [List.nodup_append] at f2
    obtain ⟨a1, a2, a3⟩ := f2
    rw [List.nodup_append] at a1
    refine List.nodup_append.mpr ⟨List.nodup_append.mpr ⟨a1.1, hn', fun a ha b hb e => (hd b hb).1 (e ▸ ha)⟩, a2, fun a ha b hb e => ?_⟩
    rcases List.mem_append.mp ha with q | q
    · exact a3 a (List.mem_append_left _ q) b hb e
    · exact (hd a q).2 (e ▸ hb)
/-- a State holds a tree -/
def SR (T σ : Nat → Nat → Int) (t : TT) (S : Nat → Bool) : Prop := ∃ (x : Nat) (ns : List Nat), σ 2 0 = (x : Int) ∧ RC T σ t x S ns ∧ ns.Nodup ∧ UsC σ ns
abbrev offW : Nat → Nat → Prop := fun f _ => f = 1 ∨ f = 2 ∨ f = 8 ∨ f = 9 ∨ f = 10 ∨ f = 11 ∨ (21 ≤ f ∧ f ≤ 26)
theorem JC.ofW {T : Nat → Nat → Int} {k j : Nat} {γ g : GG} (h : JC T (γ (2 + k)) j) (o : OffS k offW γ g) : JC T (g (2 + k)) j := h.cg (fun f h1 h2 => o.s (fun q => by unfold offW at q; omega))
theorem lean_b {A B : TT} {s : Nat} : ((tl A).length > 2 * (tl B).length + 1 ∨ (tl B).length > 2 * (tl A).length + 1) ↔ leansB (.branch s A B) = true := by
  unfold leansB
  simp
/-- a part levelled in its place -/
theorem SR.lev {T : Nat → Nat → Int} {γ g1 : GG} {k x : Nat} {S0 : Nat → Bool} {C : TT → TT} {pre post : List Nat} {pa : Option (Nat × Bool)} {u : TT} {y y' : Nat} {S : Nat → Bool} {nu ns ns' : List Nat} (F : Foc T (γ (2 + k)) 0 x S0 C pre post pa u y S nu) (hns : ns = pre ++ nu ++ post) (hroot : γ (2 + k) 2 0 = (x : Int)) (hr : RC T (g1 (2 + k)) (bld (keyT T) (tl u)) y' S ns') (hn' : ns'.Nodup) (hd : ∀ z ∈ ns', z ∉ rmv ns nu) (hU : UsC (g1 (2 + k)) (ns' ++ rmv ns nu)) (o : OffS k (offV ns') γ g1) : SR T (rpl g1 k pa y' (2 + k)) (C (bld (keyT T) (tl u))) S0 ∧ OffS k offW γ (rpl g1 k pa y') := by
  have hnd := F.2.1
  have hmem : ∀ z, z ∈ rmv ns nu ↔ z ∈ pre ∨ z ∈ post := fun z => by
    rw [rmv_mem, hns]
    rw [List.nodup_append] at hnd
    obtain ⟨a1, a2, a3⟩ := hnd
    rw [List.nodup_append] at a1
    constructor
    · rintro ⟨q1, q2⟩
      rcases List.mem_append.mp q1 with q | q
      · rcases List.mem_append.mp q with q | q
        · exact Or.inl q
        · exact absurd q q2
      · exact Or.inr q
    · rintro (q | q)
      · exact ⟨List.mem_append_left _ (List.mem_append_left _ q), fun w => a1.2.2 z q z w rfl⟩
      · exact ⟨List.mem_append_right _ q, fun w => a3 z (List.mem_append_right _ w) z q rfl⟩
  have htl : tl (bld (keyT T) (tl u)) = tl u := tl_bld _ _ _ rfl (tl_pos u)
  have hP := F.put (σ1 := g1 (2 + k)) (σ2 := rpl g1 k pa y' (2 + k)) hr hn' (fun z hz => ⟨fun q => hd z hz ((hmem z).mpr (Or.inl q)), fun q => hd z hz ((hmem z).mpr (Or.inr q))⟩) (fun z hz f q1 q2 => o.s (fun q => by
    rcases q with q | q | q | q | q | q
    · omega
    · omega
    · omega
    · omega
    · omega
    · exact hd z q.2.2 ((hmem z).mpr (List.mem_append.mp hz)))) (by rw [htl]; omega) (fun i _ => by rw [htl]) (fun f z q1 _ => rpl_n g1 k pa y' f z q1)
  have ro := rpl_off g1 k pa y'
  refine ⟨⟨_, _, ?_, hP.1, hP.2, hU.cg (ro.s (by omega)) hP.2 (fun z => ?_)⟩, (o.mono (fun f i q => ?_)).tr (ro.mono (fun f i q => ?_))⟩
  · rw [rpl_root, o.s (by unfold offV; omega), hroot]
    split <;> rfl
  · rw [List.mem_append, hmem z]
    simp only [List.mem_append]
    constructor
    · rintro (q | q | q)
      · exact Or.inl (Or.inr q)
      · exact Or.inl (Or.inl q)
      · exact Or.inr q
    · rintro ((q | q) | q)
      · exact Or.inr (Or.inl q)
      · exact Or.inl q
      · exact Or.inr (Or.inr q)
  · unfold offV at q; unfold offW; omega
  · unfold offW; omega
section S7
variable {l : Launch} {E : EE}
theorem ct_replace0 (hE : EOk E) (γ : GG) {k y y' : Nat} (hk : k < 13) (hy : y < 23) (hy' : y' < 23) : Ct l yX1_replace cX1_replace 4 none E 100 16000 [.ref (E.ad (11 + 31 * k)), .null, .ref (E.ad (19 + 31 * k + y)), .ref (E.ad (19 + 31 * k + y'))] γ (fun r g => r = none ∧ g = rpl γ k none y') 0 0 := by
  refine Ct.of hE (by decide) (Nat.le_of_ble_eq_true rfl) (fun Φ hLn hΦ F hfr hlo => ?_)
  subst hLn; subst hΦ
  have h414 := F.ok.1.2.2
  have hrc := F.rc
  have hrs := F.rs
  show Wg Φ 4 _ 0 0 0 [(0, _), (1, _), (2, _), (3, _)] []
  refine w_rng (fun hR => ?_)
  refine w_aload_n F dX1_replace_0 rfl (by first | rfl | exact rf_isRef _) ?_
  refine w_nlN (i := k) ?_
  refine w_ifnonnull F (tgt := 12) dX1_replace_1 (by decide)  (fun h => ?_) (fun h => ?_)
  · omega
  · refine w_aload_n F dX1_replace_4 rfl rfl ?_
    refine w_aload_n F dX1_replace_5 rfl rfl ?_
    refine w_frN ?_
    refine w_putF F (val := vN _ _) (fS2 _ (by omega)) (by omega) rfl in_X1 tyX1 tyX1_ok nmX1 (by decide) (Or.inl q151) rfl (by first | rfl | exact nar_rf _ _) (by first | rfl | exact fit_rf _ _) (by first | assumption | exact inR0 | exact (hR _ _ _).1 | (constructor <;> omega)) (noB rfl) (fun _ => by constructor <;> omega) dX1_replace_6 ?_
    refine w_goto F (tgt := 33) dX1_replace_9 (by decide) ?_
    exact w_vret F (by omega) (by omega) (⟨rfl, rfl⟩) dX1_replace_33
theorem ct_replaceP (hE : EOk E) (γ : GG) {k y y' p : Nat} {d : Bool} (hk : k < 13) (hy : y < 23) (hy' : y' < 23) (hp : p < 23) (hpa : PaOk (γ (2 + k)) (some (p, d)) y) : Ct l yX1_replace cX1_replace 4 none E 100 16000 [.ref (E.ad (11 + 31 * k)), .ref (E.ad (19 + 31 * k + p)), .ref (E.ad (19 + 31 * k + y)), .ref (E.ad (19 + 31 * k + y'))] γ (fun r g => r = none ∧ g = rpl γ k (some (p, d)) y') 0 0 := by
  refine Ct.of hE (by decide) (Nat.le_of_ble_eq_true rfl) (fun Φ hLn hΦ F hfr hlo => ?_)
  subst hLn; subst hΦ
  have h414 := F.ok.1.2.2
  have hrc := F.rc
  have hrs := F.rs
  show Wg Φ 4 _ 0 0 0 [(0, _), (1, _), (2, _), (3, _)] []
  refine w_rng (fun hR => ?_)
  have hrg : -1 ≤ γ (2 + k) 21 p ∧ γ (2 + k) 21 p < 23 := by
    cases d with
    | true => have h0 : γ (2 + k) 21 p = (y : Int) := hpa; omega
    | false => obtain ⟨_, z, z1, z2, _⟩ := hpa; omega
  refine w_aload_n F dX1_replace_0 rfl rfl ?_
  refine w_frN ?_
  refine w_ifnonnull F (tgt := 12) dX1_replace_1 (by decide)  (fun h => ?_) (fun h => ?_)
  · refine w_aload_n F dX1_replace_12 rfl rfl ?_
    refine w_getF F (fN1 _ (by omega) (by omega)) (by omega) rfl in_X2 (by decide) (Or.inr q116) dX1_replace_13 ?_
    refine w_aload_n F dX1_replace_16 rfl rfl ?_
    refine w_frN ?_
    refine w_acmp_ne F (tgt := 28) dX1_replace_17 (by decide) (by omega) (by omega) (by omega) (fun h2 => ?_) (fun h2 => ?_)
    · cases d with
      | true => exact absurd hpa h2
      | false =>
        refine w_aload_n F dX1_replace_28 rfl rfl ?_
        refine w_aload_n F dX1_replace_29 rfl rfl ?_
        refine w_frN ?_
        refine w_putF F (val := vN _ _) (fN2 _ (by omega) (by omega)) (by omega) rfl in_X2 tyX2 tyX2_ok nmX2 (by decide) (Or.inr q118) rfl (by first | rfl | exact nar_rf _ _) (by first | rfl | exact fit_rf _ _) (by first | assumption | exact inR0 | exact (hR _ _ _).1 | (constructor <;> omega)) (noB rfl) (fun _ => by constructor <;> omega) dX1_replace_30 ?_
        exact w_vret F (by omega) (by omega) (⟨rfl, rfl⟩) dX1_replace_33
    · cases d with
      | true =>
        refine w_aload_n F dX1_replace_20 rfl rfl ?_
        refine w_aload_n F dX1_replace_21 rfl rfl ?_
        refine w_frN ?_
        refine w_putF F (val := vN _ _) (fN1 _ (by omega) (by omega)) (by omega) rfl in_X2 tyX2 tyX2_ok nmX2 (by decide) (Or.inr q116) rfl (by first | rfl | exact nar_rf _ _) (by first | rfl | exact fit_rf _ _) (by first | assumption | exact inR0 | exact (hR _ _ _).1 | (constructor <;> omega)) (noB rfl) (fun _ => by constructor <;> omega) dX1_replace_22 ?_
        refine w_goto F (tgt := 33) dX1_replace_25 (by decide) ?_
        exact w_vret F (by omega) (by omega) (⟨rfl, rfl⟩) dX1_replace_33
      | false => obtain ⟨_, z, z1, z2, z3⟩ := hpa; omega
  · omega
theorem ct_levelS (hE : EOk E) (hA : AhOk l E) (γ : GG) {k : Nat} (hk : k < 13) {T : Nat → Nat → Int} {t : TT} {S : Nat → Bool} (hr : SR T (γ (2 + k)) t S) (hO : OrdT (keyT T) t) (hN : (tl t).Nodup) (hJ : ∀ i ∈ tl t, JC T (γ (2 + k)) i) {j : Nat} (hj : j < 12) (hs : 0 ≤ T 2 j ∧ T 2 j ≤ 99) : Ct l yX1_level cX1_level 5 (some .int) E 800 44000 [.ref (E.ad (11 + 31 * k)), .int (iI (T 2 j)), .int (iI (j : Int))] γ (fun r g => r = some (.int (iI ((levT (keyT T) (keyT T j) t).2 : Int))) ∧ SR T (g (2 + k)) (levT (keyT T) (keyT T j) t).1 S ∧ OffS k offW γ g) 0 0 := by
  refine Ct.of hE (by decide) (Nat.le_of_ble_eq_true rfl) (fun Φ hLn hΦ F hfr hlo => ?_)
  subst hLn; subst hΦ
  have h414 := F.ok.1.2.2
  have hrc := F.rc
  have hrs := F.rs
  show Wg Φ 5 _ 0 0 0 [(0, _), (1, _), (2, _)] []
  refine w_rng (fun hR => ?_)
  obtain ⟨x, ns, hroot, hrc0, hnd, hU⟩ := id hr
  have hh12 := nd_len 12 (tl t) hN (fun z hz => (hJ z hz).1)
  obtain ⟨tg, htg⟩ : ∃ q, q = levT (keyT T) (keyT T j) t := ⟨_, rfl⟩
  rw [← htg] at F
  have loop : ∀ (u : TT) (y : Nat) (S' : Nat → Bool) (nu : List Nat) (C : TT → TT) (pre post' : List Nat) (pa : Option (Nat × Bool)), Foc T (γ (2 + k)) 0 x S C pre post' pa u y S' nu → ns = pre ++ nu ++ post' → C u = t → tg = (C (levT (keyT T) (keyT T j) u).1, (levT (keyT T) (keyT T j) u).2) → OrdT (keyT T) u → (tl u).Nodup → (∀ i ∈ tl u, i ∈ tl t) → Wg Φ 5 γ 0 0 8 [(0, .ref (Φ.E.ad (11 + 31 * k))), (1, .int (iI (T 2 j))), (2, .int (iI (j : Int))), (3, va_rf (onode Φ.E.ad k (pz pa))), (4, .ref (Φ.E.ad (19 + 31 * k + y)))] [] := by
    intro u
    induction u with
    | leaf q =>
      intro y S' nu C pre post' pa a1 a2 a3 a4 a5 a6 a7
      have hy := a1.1.lt
      have h2 := a1.1.2.2.1
      have e4 : tg = (t, 0) := by rw [a4]; simp only [levT]; rw [a3]
      refine w_aload F dX1_level_8 rfl rfl ?_
      refine w_callV F (As := []) (ct_isLeafN hE γ hk hy) (lw_V q422 q423 q424 q72 q425) md_X2_isLeaf (by omega) (cell_nd (by omega) (by omega)) rfl rfl rfl rfl (Nat.le_of_ble_eq_true rfl) dX1_level_10 ⟨by omega, by omega⟩ ⟨by omega, by omega⟩ ?_
      rintro _ _ ⟨rfl, rfl⟩
      refine w_if_ne F (tgt := 39) dX1_level_13 (by decide) (b2i_R _) (fun h => ?_) (fun h => ?_)
      · refine w_aload F dX1_level_39 rfl rfl ?_
        refine w_callV F (As := []) (ct_isLeafN hE γ hk hy) (lw_V q422 q423 q424 q72 q425) md_X2_isLeaf (by omega) (cell_nd (by omega) (by omega)) rfl rfl rfl rfl (Nat.le_of_ble_eq_true rfl) dX1_level_41 ⟨by omega, by omega⟩ ⟨by omega, by omega⟩ ?_
        rintro _ _ ⟨rfl, rfl⟩
        refine w_if_eq F (tgt := 49) dX1_level_44 (by decide) (b2i_R _) (fun h3 => ?_) (fun h3 => ?_)
        · rw [b2i_0] at h3
          omega
        · refine w_iconst F dX1_level_47 ?_
          exact w_iret F (by omega) (by omega) (⟨by rw [e4]; rfl, by rw [e4]; exact hr, OffS.rf⟩) dX1_level_48
      · rw [b2i_0] at h
        omega
    | branch s a b iha ihb =>
      intro y S' nu C pre post' pa a1 a2 a3 a4 a5 a6 a7
      have hy := a1.1.lt
      obtain ⟨xa, xb, na, nb, e, h1, h2, h3, h4, h5, h6, h7, h8⟩ := id a1.1
      have hxa := h7.lt
      have hxb := h8.lt
      have a6' := List.nodup_append.mp a6
      obtain ⟨o1, o2, _, _, o5, o6⟩ := id a5
      have hgl := gl_key (γ := γ) (k := k) (x := y) (T := T) (s := s) (j := j) h4 hj hs.1
      have hL1 : (tl a).length ≤ 12 := nd_len 12 (tl a) a6'.1 (fun z hz => (hJ z (a7 z (List.mem_append_left _ hz))).1)
      have hL2 : (tl b).length ≤ 12 := nd_len 12 (tl b) a6'.2.1 (fun z hz => (hJ z (a7 z (List.mem_append_right _ hz))).1)
      refine w_aload F dX1_level_8 rfl rfl ?_
      refine w_callV F (As := []) (ct_isLeafN hE γ hk hy) (lw_V q422 q423 q424 q72 q425) md_X2_isLeaf (by omega) (cell_nd (by omega) (by omega)) rfl rfl rfl rfl (Nat.le_of_ble_eq_true rfl) dX1_level_10 ⟨by omega, by omega⟩ ⟨by omega, by omega⟩ ?_
      rintro _ _ ⟨rfl, rfl⟩
      refine w_if_ne F (tgt := 39) dX1_level_13 (by decide) (b2i_R _) (fun h => ?_) (fun h => ?_)
      · rw [b2i_n0] at h
        omega
      · refine w_aload F dX1_level_16 rfl rfl ?_
        refine w_callV F (As := []) (ct_leansN hE γ hk hy hxa hxb h2 h3 h7.lvs h8.lvs h5 (by omega) (by omega)) (lw_V q503 q504 q505 q72 q506) md_X2_leans (by omega) (cell_nd (by omega) (by omega)) rfl rfl rfl rfl (Nat.le_of_ble_eq_true rfl) dX1_level_18 ⟨by omega, by omega⟩ ⟨by omega, by omega⟩ ?_
        rintro _ _ ⟨rfl, rfl⟩
        refine w_if_ne F (tgt := 39) dX1_level_21 (by decide) (b2i_R _) (fun hl => ?_) (fun hl => ?_)
        · rw [b2i_n0, lean_b (s := s)] at hl
          have e4 : tg = (C (bld (keyT T) (tl (.branch s a b))), 1) := by rw [a4]; simp only [levT]; rw [if_pos hl]; rfl
          refine w_aload F dX1_level_39 rfl rfl ?_
          refine w_callV F (As := []) (ct_isLeafN hE γ hk hy) (lw_V q422 q423 q424 q72 q425) md_X2_isLeaf (by omega) (cell_nd (by omega) (by omega)) rfl rfl rfl rfl (Nat.le_of_ble_eq_true rfl) dX1_level_41 ⟨by omega, by omega⟩ ⟨by omega, by omega⟩ ?_
          rintro _ _ ⟨rfl, rfl⟩
          refine w_if_eq F (tgt := 49) dX1_level_44 (by decide) (b2i_R _) (fun h9 => ?_) (fun h9 => ?_)
          · have sub : ∀ z ∈ nu, z ∈ ns := fun z hz => by rw [a2]; exact List.mem_append_left _ (List.mem_append_right _ hz)
            have hnu : nu.Nodup := nd_in a1.2.1
            rcases pa with _ | ⟨p, d⟩
            · skip
              refine w_aload_n F dX1_level_49 rfl rfl ?_
              refine w_aload_n F dX1_level_50 rfl (by first | rfl | exact rf_isRef _) ?_
              refine w_toNull (by show (-1 : Int) < 0; decide) ?_
              refine w_aload F dX1_level_51 rfl rfl ?_
              refine w_aload_n F dX1_level_53 rfl rfl ?_
              refine w_aload F dX1_level_54 rfl rfl ?_
              refine w_callV F (As := [_]) (ct_levelled hE hA γ hk a1.1 hnu a5 a6 (fun i hi => hJ i (a7 i hi)) hU sub) (lw_V q508 q510 qs12 q71 q511) md_X1_levelled (by omega) (cell_stO (by omega)) rfl rfl rfl rfl (Nat.le_of_ble_eq_true rfl) dX1_level_56 ⟨by omega, by omega⟩ ⟨by omega, by omega⟩ ?_
              rintro _ g1 ⟨y', ns', rfl, r1, d1, i1, u1, off1⟩
              have hy' := r1.lt
              have hL := SR.lev a1 a2 hroot r1 d1 i1 u1 off1
              refine w_callV F (As := [_, _, _]) (ct_replace0 hE g1 hk hy hy') (lw_V q524 q526 qs16 q71 q527) md_X1_replace (by omega) (cell_stO (by omega)) rfl rfl rfl rfl (Nat.le_of_ble_eq_true rfl) dX1_level_59 ⟨by omega, by omega⟩ ⟨by omega, by omega⟩ ?_
              rintro _ _ ⟨rfl, rfl⟩
              refine w_iconst F dX1_level_62 ?_
              exact w_iret F (by omega) (by omega) (⟨by rw [e4]; rfl, by rw [e4]; exact hL.1, hL.2⟩) dX1_level_63
            · have hpp : p ∈ pre := a1.2.2.2.2.2.2 p d rfl
              have hp23 : p < 23 := hU.lt p (by rw [a2]; exact List.mem_append_left _ (List.mem_append_left _ hpp))
              refine w_aload_n F dX1_level_49 rfl rfl ?_
              refine w_aload_n F dX1_level_50 rfl (by first | rfl | exact rf_isRef _) ?_
              refine w_toN (j := p) rfl ?_
              refine w_aload F dX1_level_51 rfl rfl ?_
              refine w_aload_n F dX1_level_53 rfl rfl ?_
              refine w_aload F dX1_level_54 rfl rfl ?_
              refine w_callV F (As := [_]) (ct_levelled hE hA γ hk a1.1 hnu a5 a6 (fun i hi => hJ i (a7 i hi)) hU sub) (lw_V q508 q510 qs12 q71 q511) md_X1_levelled (by omega) (cell_stO (by omega)) rfl rfl rfl rfl (Nat.le_of_ble_eq_true rfl) dX1_level_56 ⟨by omega, by omega⟩ ⟨by omega, by omega⟩ ?_
              rintro _ g1 ⟨y', ns', rfl, r1, d1, i1, u1, off1⟩
              have hy' := r1.lt
              have hL := SR.lev a1 a2 hroot r1 d1 i1 u1 off1
              have hpn : p ∉ ns' := fun q => i1 p q (rmv_mem.mpr ⟨by rw [a2]; exact List.mem_append_left _ (List.mem_append_left _ hpp), fun w => by
                have := a1.2.1
                rw [List.nodup_append] at this
                exact (List.nodup_append.mp this.1).2.2 p hpp p w rfl⟩)
              have e21 : ∀ f, 21 ≤ f → g1 (2 + k) f p = γ (2 + k) f p := fun f hf => off1.s (fun q => by
                rcases q with q | q | q | q | q | q
                · omega
                · omega
                · omega
                · omega
                · omega
                · exact hpn q.2.2)
              have hpa1 : PaOk (g1 (2 + k)) (some (p, d)) y := by
                have h0 := a1.2.2.1
                cases d with
                | true => show g1 (2 + k) 21 p = _; rw [e21 21 (by omega)]; exact h0
                | false => show g1 (2 + k) 22 p = _ ∧ ∃ z : Nat, z < 23 ∧ g1 (2 + k) 21 p = _ ∧ z ≠ _; rw [e21 22 (by omega), e21 21 (by omega)]; exact h0
              refine w_callV F (As := [_, _, _]) (ct_replaceP hE g1 hk hy hy' hp23 hpa1) (lw_V q524 q526 qs16 q71 q527) md_X1_replace (by omega) (cell_stO (by omega)) rfl rfl rfl rfl (Nat.le_of_ble_eq_true rfl) dX1_level_59 ⟨by omega, by omega⟩ ⟨by omega, by omega⟩ ?_
              rintro _ _ ⟨rfl, rfl⟩
              refine w_iconst F dX1_level_62 ?_
              exact w_iret F (by omega) (by omega) (⟨by rw [e4]; rfl, by rw [e4]; exact hL.1, hL.2⟩) dX1_level_63
          · rw [b2i_n0] at h9
            omega
        · rw [b2i_0, lean_b (s := s)] at hl
          refine w_aload F dX1_level_24 rfl rfl ?_
          refine w_astore_n F dX1_level_26 (by decide) rfl (lv' := [(0, _), (1, _), (2, _), (3, _), (4, _)]) rfl rfl ?_
          refine w_aload F dX1_level_27 rfl rfl ?_
          refine w_iload_n F dX1_level_29 rfl ?_
          refine w_iload_n F dX1_level_30 rfl ?_
          refine w_callV F (As := [_, _]) (ct_partN hE γ hk hy (s := T 2 j) (j := (j : Int)) (by omega) (by omega)) (lw_V q430 q431 q432 q72 q433) md_X2_part (by omega) (cell_nd (by omega) (by omega)) rfl rfl rfl rfl (Nat.le_of_ble_eq_true rfl) dX1_level_31 ⟨by omega, by omega⟩ ⟨by omega, by omega⟩ ?_
          rintro _ _ ⟨rfl, rfl⟩
          by_cases hc : keyT T j ≤ s
          · rw [if_pos (hgl.mpr hc)]
            refine w_toN h2 ?_
            refine w_astore F dX1_level_34 (by decide) rfl (lv' := [(0, _), (1, _), (2, _), (3, _), (4, _)]) rfl rfl ?_
            refine w_goto F (tgt := 8) dX1_level_36 (by decide) ?_
            have hF := a1.left (σ2 := γ (2 + k)) e h1 h2 h3 h4 h5 h6 h7 h8 (by omega) (fun _ _ _ => rfl)
            have := iha xa _ na _ _ _ (some (y, true)) hF (by rw [a2, e]; simp) a3 (by rw [a4]; simp only [levT]; rw [if_neg hl, if_pos hc]) o5 a6'.1 (fun i hi => a7 i (List.mem_append_left _ hi))
            rw [show onode Φ.E.ad k (pz (some (y, true))) = some (Φ.E.ad (19 + 31 * k + y)) from onode_s rfl] at this
            exact this
          · rw [if_neg (fun q => hc (hgl.mp q))]
            refine w_toN h3 ?_
            refine w_astore F dX1_level_34 (by decide) rfl (lv' := [(0, _), (1, _), (2, _), (3, _), (4, _)]) rfl rfl ?_
            refine w_goto F (tgt := 8) dX1_level_36 (by decide) ?_
            have hF := a1.right (σ2 := γ (2 + k)) e h1 h2 h3 h4 h5 h6 h7 h8 (by omega) (fun _ _ _ => rfl)
            have := ihb xb _ nb _ _ _ (some (y, false)) hF (by rw [a2, e]; simp) a3 (by rw [a4]; simp only [levT]; rw [if_neg hl, if_neg hc]) o6 a6'.2.1 (fun i hi => a7 i (List.mem_append_right _ hi))
            rw [show onode Φ.E.ad k (pz (some (y, false))) = some (Φ.E.ad (19 + 31 * k + y)) from onode_s rfl] at this
            exact this
  refine w_null F dX1_level_0 ?_
  refine w_nlN (i := k) ?_
  refine w_astore_n F dX1_level_1 (by decide) rfl (lv' := [(0, _), (1, _), (2, _), (3, _)]) rfl (by first | rfl | exact rf_isRef _) ?_
  refine w_aload_n F dX1_level_2 rfl rfl ?_
  refine w_getF F (fS2 _ (by omega)) (by omega) rfl in_X1 (by decide) (Or.inl q151) dX1_level_3 ?_
  refine w_toN hroot ?_
  refine w_astore F dX1_level_6 (by decide) (by first | rfl | (generalize onode _ _ _ = o; cases o <;> rfl)) (lv' := [(0, _), (1, _), (2, _), (3, _), (4, _)]) rfl rfl ?_
  exact loop t x S ns (fun u => u) [] [] none (Foc.top hrc0 hnd) (by simp) rfl (by rw [htg]) hO hN (fun i hi => hi)
end S7
