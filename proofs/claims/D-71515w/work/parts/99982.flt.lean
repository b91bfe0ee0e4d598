/-! the class Fault's constructor, up to Throwable's -/
theorem ap_get (base : va_W) (x : Nat × va_E) : (base ++ [x])[base.length]? = some x := by simp
theorem ap_set (base : va_W) (x z : Nat × va_E) : (base ++ [x]).set base.length z = base ++ [z] := by simp
theorem nar_vo {C : String} {v : Value} (h : v.isRef = true) : narrow (.object C) v = v := by cases v <;> first | rfl | cases h
theorem fit_vo {C : String} {v : Value} (h : v.isRef = true) : fits (.object C) v = true := by cases v <;> first | rfl | cases h
theorem nar_va {t : FieldType} {v : Value} (h : v.isRef = true) : narrow (.array t) v = v := by cases v <;> first | rfl | cases h
theorem fit_va {t : FieldType} {v : Value} (h : v.isRef = true) : fits (.array t) v = true := by cases v <;> first | rfl | cases h
section VFL
variable {Φ : PH} {cc : ByteArray} {y : MethodName} {nL : Nat} {ret : Option FieldType} {post : Option Value → va_W → Prop} {mc ms : Nat} {ws : va_W} {k n pc : Nat} {lv lv' : List (Nat × Value)} {st rest : List Value}
theorem v_gets (F : Fcv Φ cc y nL ret post mc ms) {C nm d : String} {index : Nat} (hly : Cond.laysStatic C nm d ∈ lw_tbl) (hini : Cond.initialized C ∈ lw_all) (hr : (Cond.isRef (.static C nm d)).before #[] Φ.E.S = true) (hlink : Cond.fieldLink y.cls index C nm d ∈ lw_all) (hdg : decode cc pc = .ok (.getstatic index, 3)) (h : ∀ v : Value, v.isRef = true → Vg Φ nL ws k n (pc + 3) lv (v :: st)) : Vg Φ nL ws k n pc lv st := by
  intro H locs ls hW hS hlv
  have hz : va_Zq C nm d (fun q => Φ.E.bs ≤ q) Φ.E.S Φ.E.S.heap := va_Zqof (F.ok.2 _ hly) (F.ok.2 _ (lw_all_tbl hini)) hr (fun a ha => Nat.not_le.mpr ha)
  have hz1 : va_Zq C nm d (fun q => Φ.E.bs ≤ q) Φ.s Φ.s.heap := va_Zq.kept (va_Zq.moved F.wm.alike hz) (fun a ha hn => by
    rw [← hS.2.1 a (Nat.lt_of_lt_of_le ha F.bs) hn]
    exact hW.2.2.2 a ha)
  rcases hz1 with q | ⟨t, q⟩
  · exact va_gets F.x F.b q hS F.ow (F.ts _ hlink) (fun _ h => h) hdg (h .null rfl H locs ls hW hS hlv)
  · exact va_gets F.x F.b q hS F.ow (F.ts _ hlink) (fun _ h => h) hdg (h (.ref t) rfl H locs ls hW hS hlv)
theorem v_ldcS (F : Fcv Φ cc y nL ret post mc ms) {tx : String} {index q : Nat} (hZ : vk_R y.cls index tx q Φ.E.S) (hdg : decode cc pc = .ok (.ldc index, 2)) (h : Vg Φ nL ws k n (pc + 2) lv (.ref q :: st)) : Vg Φ nL ws k n pc lv st := fun H locs ls hW hS hlv => va_ldcS F.x F.b F.ow (vk_R.warm F.wm hZ) hdg (h H locs ls hW hS hlv)
theorem v_putX7 (F : Fcv Φ cc y nL ret post mc ms) {base : va_W} {a : Nat} {fs : List Value} (hl6 : fs.length = 6) (f : Nat) (hf : f < 6) {index : Nat} (hlink : Cond.fieldLink y.cls index (TX7 f).1 (TX7 f).2.1 (TX7 f).2.2.1 ∈ lw_all) (hfin : (TX7 f).2.2.2 = false) {v : Value} (hn : narrow (tyX7 f) v = v) (hfit : fits (tyX7 f) v = true) (hdg : decode cc pc = .ok (.putfield index, 3)) (h : ∀ fs' : List Value, fs'.length = 6 → Vg Φ nL (base ++ [(a, .inr (8, fs'))]) k n (pc + 3) lv st) : Vg Φ nL (base ++ [(a, .inr (8, fs))]) k n pc lv (v :: .ref a :: st) := by
  refine v_put F (q0 := base.length) (ap_get base _) (ci := 8) rfl in_X7 tyX7 tyX7_ok nmX7 f hf hlink hfin hn hfit (by omega) hdg ?_
  rw [ap_set]
  exact h _ (by simpa using hl6)
end VFL
def StrF (E : EE) : Prop := ∃ b, vk_R "DeadlineTree$Fault" 1 "fault" b E.S
section FLC
variable {l : Launch} {E : EE}
theorem cv_thr (hE : KOk E) (hN : StOk E) (base : va_W) {a b : Nat} {fs : List Value} (hl6 : fs.length = 6) : Cv l yJ4_init_2 cJ4_init_2 5 none E 100 16000 [.ref a, .ref b, .null, .int (iI 0), .int (iI 0)] (base ++ [(a, .inr (8, fs))]) (fun r ws' => r = none ∧ ∃ fs', fs'.length = 6 ∧ ws' = base ++ [(a, .inr (8, fs'))]) 0 0 := by
  refine Cv.of hE (by decide +kernel) (Nat.le_of_ble_eq_true rfl) (fun Φ hLn hΦ F hfr hlo => ?_)
  subst hLn; subst hΦ
  have hrc := F.rc
  have hrs := F.rs
  show Vg Φ 5 _ 0 0 0 [(0, _), (1, _), (2, _), (3, _), (4, _)] []
  refine v_aload_n F dJ4_init_2_0 rfl rfl ?_
  refine v_objInit F q331 (Nat.le_of_ble_eq_true rfl) ⟨by omega, by omega⟩ dJ4_init_2_1 ?_
  refine v_aload_n F dJ4_init_2_4 rfl rfl ?_
  refine v_aload_n F dJ4_init_2_5 rfl rfl ?_
  refine v_putX7 F hl6 0 (by decide) q374 rfl rfl rfl dJ4_init_2_6 (fun f1 g1 => ?_)
  refine v_aload_n F dJ4_init_2_9 rfl rfl ?_
  refine v_gets F q333 q81 hN.1 q332 dJ4_init_2_10 (fun v1 r1 => ?_)
  refine v_putX7 F g1 1 (by decide) q375 rfl (nar_va r1) (fit_va r1) dJ4_init_2_13 (fun f2 g2 => ?_)
  refine v_aload_n F dJ4_init_2_16 rfl rfl ?_
  refine v_gets F q335 q81 hN.2 q334 dJ4_init_2_17 (fun v2 r2 => ?_)
  refine v_putX7 F g2 2 (by decide) q376 rfl (nar_vo r2) (fit_vo r2) dJ4_init_2_20 (fun f3 g3 => ?_)
  refine v_iload F dJ4_init_2_23 rfl ?_
  refine v_if_eq F (tgt := 36) dJ4_init_2_25 (by decide) (by first | assumption | exact inR0 | exact (hR _ _ _).1 | (constructor <;> omega)) (fun h => ?_) (fun h => ?_)
  · refine v_aload_n F dJ4_init_2_36 rfl rfl ?_
    refine v_null F dJ4_init_2_37 ?_
    refine v_putX7 F g3 1 (by decide) q375 rfl rfl rfl dJ4_init_2_38 (fun f4 g4 => ?_)
    refine v_aload_n F dJ4_init_2_41 rfl rfl ?_
    refine v_aload_n F dJ4_init_2_42 rfl rfl ?_
    refine v_putX7 F g4 3 (by decide) q373 rfl rfl rfl dJ4_init_2_43 (fun f5 g5 => ?_)
    refine v_aload_n F dJ4_init_2_46 rfl rfl ?_
    refine v_aload_n F dJ4_init_2_47 rfl (by first | rfl | exact rf_isRef _) ?_
    refine v_putX7 F g5 0 (by decide) q374 rfl rfl rfl dJ4_init_2_48 (fun f6 g6 => ?_)
    refine v_iload_n F dJ4_init_2_51 rfl ?_
    refine v_if_ne F (tgt := 60) dJ4_init_2_52 (by decide) (by first | assumption | exact inR0 | exact (hR _ _ _).1 | (constructor <;> omega)) (fun h2 => ?_) (fun h2 => ?_)
    · exact absurd rfl h2
    · refine v_aload_n F dJ4_init_2_55 rfl rfl ?_
      refine v_null F dJ4_init_2_56 ?_
      refine v_putX7 F g6 2 (by decide) q376 rfl rfl rfl dJ4_init_2_57 (fun f7 g7 => ?_)
      exact v_vret F (by omega) (by omega) (⟨rfl, f7, g7, rfl⟩) dJ4_init_2_60
  · exact absurd rfl h
theorem cv_exc (hE : KOk E) (hN : StOk E) (base : va_W) {a b : Nat} {fs : List Value} (hl6 : fs.length = 6) : Cv l yJ5_init cJ5_init 5 none E 200 20000 [.ref a, .ref b, .null, .int (iI 0), .int (iI 0)] (base ++ [(a, .inr (8, fs))]) (fun r ws' => r = none ∧ ∃ fs', fs'.length = 6 ∧ ws' = base ++ [(a, .inr (8, fs'))]) 0 0 := by
  refine Cv.of hE (by decide +kernel) (Nat.le_of_ble_eq_true rfl) (fun Φ hLn hΦ F hfr hlo => ?_)
  subst hLn; subst hΦ
  have hrc := F.rc
  have hrs := F.rs
  show Vg Φ 5 _ 0 0 0 [(0, _), (1, _), (2, _), (3, _), (4, _)] []
  refine v_aload_n F dJ5_init_0 rfl rfl ?_
  refine v_aload_n F dJ5_init_1 rfl rfl ?_
  refine v_aload_n F dJ5_init_2 rfl (by first | rfl | exact rf_isRef _) ?_
  refine v_iload_n F dJ5_init_3 rfl ?_
  refine v_iload F dJ5_init_4 rfl ?_
  refine v_callI F (As := [_, _, _, _]) (cv_thr hE hN base hl6) q371 q81 q369 q370 rfl md_J4_init_2 rfl rfl (Nat.le_of_ble_eq_true rfl) dJ5_init_6 ⟨by omega, by omega⟩ ⟨by omega, by omega⟩ ?_
  rintro _ _ ⟨rfl, fs', g, rfl⟩
  exact v_vret F (by omega) (by omega) (⟨rfl, fs', g, rfl⟩) dJ5_init_9
theorem cv_rte (hE : KOk E) (hN : StOk E) (base : va_W) {a b : Nat} {fs : List Value} (hl6 : fs.length = 6) : Cv l yJ6_init cJ6_init 5 none E 300 24000 [.ref a, .ref b, .null, .int (iI 0), .int (iI 0)] (base ++ [(a, .inr (8, fs))]) (fun r ws' => r = none ∧ ∃ fs', fs'.length = 6 ∧ ws' = base ++ [(a, .inr (8, fs'))]) 0 0 := by
  refine Cv.of hE (by decide +kernel) (Nat.le_of_ble_eq_true rfl) (fun Φ hLn hΦ F hfr hlo => ?_)
  subst hLn; subst hΦ
  have hrc := F.rc
  have hrs := F.rs
  show Vg Φ 5 _ 0 0 0 [(0, _), (1, _), (2, _), (3, _), (4, _)] []
  refine v_aload_n F dJ6_init_0 rfl rfl ?_
  refine v_aload_n F dJ6_init_1 rfl rfl ?_
  refine v_aload_n F dJ6_init_2 rfl (by first | rfl | exact rf_isRef _) ?_
  refine v_iload_n F dJ6_init_3 rfl ?_
  refine v_iload F dJ6_init_4 rfl ?_
  refine v_callI F (As := [_, _, _, _]) (cv_exc hE hN base hl6) q368 q82 q366 q367 rfl md_J5_init rfl rfl (Nat.le_of_ble_eq_true rfl) dJ6_init_6 ⟨by omega, by omega⟩ ⟨by omega, by omega⟩ ?_
  rintro _ _ ⟨rfl, fs', g, rfl⟩
  exact v_vret F (by omega) (by omega) (⟨rfl, fs', g, rfl⟩) dJ6_init_9
theorem cv_flt (hE : KOk E) (hN : StOk E) (hF : StrF E) (base : va_W) {a : Nat} {fs : List Value} (hl6 : fs.length = 6) : Cv l yX7_init cX7_init 1 none E 400 28000 [.ref a] (base ++ [(a, .inr (8, fs))]) (fun r ws' => r = none ∧ ∃ fs', fs'.length = 6 ∧ ws' = base ++ [(a, .inr (8, fs'))]) 0 0 := by
  refine Cv.of hE (by decide +kernel) (Nat.le_of_ble_eq_true rfl) (fun Φ hLn hΦ F hfr hlo => ?_)
  subst hLn; subst hΦ
  have hrc := F.rc
  have hrs := F.rs
  show Vg Φ 1 _ 0 0 0 [(0, _)] []
  obtain ⟨b, hb⟩ := hF
  refine v_aload_n F dX7_init_0 rfl rfl ?_
  refine v_ldcS F hb dX7_init_1 ?_
  refine v_null F dX7_init_3 ?_
  refine v_iconst F dX7_init_4 ?_
  refine v_iconst F dX7_init_5 ?_
  refine v_callI F (As := [_, _, _, _]) (cv_rte hE hN base hl6) q365 q83 q363 q364 rfl md_J6_init rfl rfl (Nat.le_of_ble_eq_true rfl) dX7_init_6 ⟨by omega, by omega⟩ ⟨by omega, by omega⟩ ?_
  rintro _ _ ⟨rfl, fs', g, rfl⟩
  exact v_vret F (by omega) (by omega) (⟨rfl, fs', g, rfl⟩) dX7_init_9
end FLC
