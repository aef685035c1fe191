/-! THE STORE, ninth: begin, the constructor -/
set_option maxRecDepth 100000
theorem bgn_u : ∀ k, k ∈ usd bgn ↔ k = lowF (usd [([], [0], 0)]) ∨ k ∈ usd [([], [0], 0)] := by
  have e1 : usd bgn = [0, 1] := rfl
  have e2 : usd [([], [0], 0)] = [0] := rfl
  have e3 : lowF [0] = 1 := by decide
  intro k
  rw [e1, e2, e3]
  simp
  omega
theorem ctX2_begin {l : Launch} {g : jG} (hG : GS l g) (bg : va_W) {q lv pt sz hs bl tk cap : Nat} {F : K5} {qs : List Nat} {wbl : va_W} {f : Nat → Int32} (hA : AL g bl qs wbl) : KX2_begin l g 9 11 [.ref q] bg [[(q, stO F lv pt sz hs bl tk)], [(tk, eA g 1 96 f)], wbl] (fun v wd => v = none ∧ ∃ q0 q1 wbl2 w0 w1, wd = [[(q, stO F 0 0 0 hs bl tk)], [(tk, tkO g (usd bgn))], wbl2, w0, w1] ∧ AL g bl [q0, q1] wbl2 ∧ isBk g cap q0 [] [0] 0 w0 ∧ isBk g cap q1 [] [1] 0 w1) := by
  have hA9 := hA
  obtain ⟨m3, b3, hA3⟩ := hA9
  obtain ⟨t3, rfl, -⟩ := hA3.head
  have u0 : uAdd ([] : List Nat).length = 1 := rfl
  have l0 : lowF ([] : List Nat) = 0 := by decide
  have l1 : lowF [0] = 1 := by decide
  refine Ctr.of [some (.ref q), none] hG (by decide +kernel) rfl (Nat.le_of_ble_eq_true rfl) (fun Y hl hN0 o r hI => ?_)
  subst hl
  have hN : ∀ i, i < 2 → i < yN Y := fun i h => by rw [hN0]; exact h
  refine j_ald_n o dX2_begin_0 rfl rfl (q := 1) rfl ?_
  refine j_gf o dX2_begin_1 (jw 0 0 rfl rfl) kcX2 9 (Nat.le_of_ble_eq_true rfl) q309 rfl (q := 4) rfl ?_
  refine j_mv2 ?_
  refine j_callV1 o (ctJ2_clear hG _ hA) dX2_begin_4 q166 wdJ2_clear mdJ2_clear (jw 0 0 rfl rfl) (by rfl) (by rfl) rfl (Nat.le_of_ble_eq_true rfl) (Nat.le_of_ble_eq_true rfl) (by omega) (Nat.le_of_ble_eq_true rfl) (q := 7) rfl (fun v wd hpost => ?_)
  obtain ⟨rfl, wbl2, rfl, hA2⟩ := hpost
  dsimp only [List.cons_append, List.nil_append, Option.toList]
  refine j_ald_n o dX2_begin_7 rfl rfl (q := 8) rfl ?_
  refine j_iconst o (nI 0) dX2_begin_8 (by decide) (q := 9) rfl ?_
  refine j_pf o dX2_begin_9 1 0 rfl rfl kcX2 3 (Nat.le_of_ble_eq_true rfl) q297 rfl rfl rfl (Nat.le_of_ble_eq_true rfl) (q := 12) rfl ?_
  dsimp only [List.set]
  refine j_ald_n o dX2_begin_12 rfl rfl (q := 13) rfl ?_
  refine j_iconst o (nI 0) dX2_begin_13 (by decide) (q := 14) rfl ?_
  refine j_pf o dX2_begin_14 1 0 rfl rfl kcX2 4 (Nat.le_of_ble_eq_true rfl) q299 rfl rfl rfl (Nat.le_of_ble_eq_true rfl) (q := 17) rfl ?_
  dsimp only [List.set]
  refine j_ald_n o dX2_begin_17 rfl rfl (q := 18) rfl ?_
  refine j_iconst o (nI 0) dX2_begin_18 (by decide) (q := 19) rfl ?_
  refine j_pf o dX2_begin_19 1 0 rfl rfl kcX2 5 (Nat.le_of_ble_eq_true rfl) q301 rfl rfl rfl (Nat.le_of_ble_eq_true rfl) (q := 22) rfl ?_
  dsimp only [List.set]
  refine j_iconst o (nI 0) dX2_begin_22 (by decide) (q := 23) rfl ?_
  refine j_ist1 o dX2_begin_23 rfl (hN 1 (Nat.le_of_ble_eq_true rfl)) (q := 24) rfl ?_
  have loop : ∀ d k, k + d = 96 → J g Y [wbl2, [(q, stO F 0 0 0 hs bl tk)], [(tk, eA g 1 96 (fun i => if i < k then 0 else f i))]] 0 24 [some (.ref q), some (.int (nI k))] [] := by
    intro d
    induction d with
    | zero =>
      intro k hk9
      have hk9 : k = 96 := hk9
      subst hk9
      refine j_ild_n o dX2_begin_24 rfl (q := 25) rfl ?_
      refine j_bipush o (nI 96) dX2_begin_25 (by decide) (q := 27) rfl ?_
      refine j_icgeT o 43 dX2_begin_27 (by decide) (by decide) ?_
      refine j_fnA (k9 := 2) (j := 0) (f2 := fun k => nI (if k ∈ ([] : List Nat) then 1 else 0)) rfl rfl (fun i hi => ?_) ?_
      · show (if i < 96 then _ else _) = _
        rw [if_pos hi]
        rfl
      dsimp only [List.set]
      have hA8 := hA2
      obtain ⟨m4, b4, hA4⟩ := hA8
      obtain ⟨t4, rfl, -⟩ := hA4.head
      refine j_ald_n o dX2_begin_43 rfl rfl (q := 44) rfl ?_
      refine j_mv2 ?_
      refine j_callV2 o (ctX2_addBucket hG _ (cap := cap) (F := F) (us := []) (us2 := [0]) (jwl 0 rfl List.mem_cons_self) hA2 (by simp) (by simp) (by simp) (fun k => by rw [l0]; simp)) dX2_begin_44 q170 wdX2_addBucket mdX2_addBucket (jw 2 0 rfl rfl) (by rfl) (by rfl) rfl (Nat.le_of_ble_eq_true rfl) (Nat.le_of_ble_eq_true rfl) (by omega) (Nat.le_of_ble_eq_true rfl) (q := 47) rfl (fun v wd hpost => ?_)
      obtain ⟨q0, wbl3, w0, rfl, rfl, hA5, hB0⟩ := hpost
      dsimp only [List.cons_append, List.nil_append, Option.toList]
      refine j_pop o dX2_begin_47 rfl (q := 48) rfl ?_
      refine j_ald_n o dX2_begin_48 rfl rfl (q := 49) rfl ?_
      obtain ⟨c0, p0, hc0, -⟩ := hB0.r (S := w0) (fun _ h => h)
      have hA7 := hA5
      obtain ⟨m5, b5, hA6⟩ := hA7
      obtain ⟨t5, rfl, -⟩ := hA6.head
      have u1 : uAdd ([] ++ [q0] : List Nat).length = 0 := rfl
      have u2 : uAdd [q0].length = 0 := rfl
      refine j_callV2 o (ctX2_addBucket hG _ (cap := cap) (F := F) (us := [0]) (us2 := usd bgn) (jwl 1 rfl List.mem_cons_self) hA5 (fun y hy => by simp at hy; subst hy; exact Or.inl ⟨_, jwl 0 rfl hc0, trivial⟩) (by simp) (by simp) bgn_u) dX2_begin_49 q170 wdX2_addBucket mdX2_addBucket (jw 3 0 rfl rfl) (by rfl) (by rfl) rfl (Nat.le_of_ble_eq_true rfl) (Nat.le_of_ble_eq_true rfl) (by omega) (Nat.le_of_ble_eq_true rfl) (q := 52) rfl (fun v wd hpost => ?_)
      obtain ⟨q1, wbl4, w1, rfl, rfl, hA8, hB1⟩ := hpost
      dsimp only [List.cons_append, List.nil_append, Option.toList]
      refine j_pop o dX2_begin_52 rfl (q := 53) rfl ?_
      rw [l0] at hB0
      rw [l1] at hB1
      refine j_mv2 ?_
      refine j_mv3 ?_
      refine j_mv3 ?_
      refine j_mv3 ?_
      refine j_mv4 ?_
      exact j_vret o r dX2_begin_53 [_, _, _, _, _] _ rfl (⟨rfl, q0, q1, wbl4, w0, w1, rfl, hA8, hB0, hB1⟩) (by omega)
    | succ d ih =>
      intro k hk9
      refine j_ild_n o dX2_begin_24 rfl (q := 25) rfl ?_
      refine j_bipush o (nI 96) dX2_begin_25 (by decide) (q := 27) rfl ?_
      refine j_icgeF o (t := 43) dX2_begin_27 (by decide) (q := 30) rfl (nI_ge (a := k) (b := 96) (by omega) (by omega)) ?_
      refine j_ald_n o dX2_begin_30 rfl rfl (q := 31) rfl ?_
      refine j_gf o dX2_begin_31 (jw 1 0 rfl rfl) kcX2 10 (Nat.le_of_ble_eq_true rfl) q311 rfl (q := 34) rfl ?_
      refine j_ild_n o dX2_begin_34 rfl (q := 35) rfl ?_
      refine j_iconst o (nI 0) dX2_begin_35 (by decide) (q := 36) rfl ?_
      refine j_zast o dX2_begin_36 2 0 rfl rfl (by omega) (by omega) rfl (q := 37) rfl ?_
      dsimp only [List.set]
      refine j_fnA (k9 := 2) (j := 0) (f2 := fun i => if i < k + 1 then 0 else f i) rfl rfl (fun i hi => ?_) ?_
      · show (if i = k then _ else if i < k then _ else _) = _
        by_cases hik : i = k
        · rw [if_pos hik, if_pos (by omega)]
          rfl
        · rw [if_neg hik]
          by_cases hik2 : i < k
          · rw [if_pos hik2, if_pos (by omega)]
          · rw [if_neg hik2, if_neg (by omega)]
      dsimp only [List.set]
      refine j_inc1 o (nI (k + 1)) dX2_begin_37 (by first | exact nI_1 _ | exact pk_m1 _ | rfl) rfl (q := 40) rfl ?_
      refine j_goto o 24 dX2_begin_40 (by decide) ?_
      exact ih (k + 1) (by omega)
  have h0 := loop 96 0 rfl
  have e0 : (fun i => if i < 0 then (0 : Int32) else f i) = f := by
    funext i
    rw [if_neg (by omega)]
  rw [e0] at h0
  exact h0
def fNew (cap : Nat) : Fl := ((cap, 40, 80), (682, 0), (0, 0), bgn)
theorem bgn_lv : lvl bgn.length = 0 ∧ ptr bgn.length = 0 ∧ rws bgn = 0 := by decide
theorem bgn_st {g : jG} {hs q bl tk q0 q1 : Nat} {F : K5} {wbl w0 w1 w : va_W} (hA : AL g bl [q0, q1] wbl) (h0 : isBk g F.1 q0 [] [0] 0 w0) (h1 : isBk g F.1 q1 [] [1] 0 w1) (hw : w.Perm (jflat [[(q, stO F 0 0 0 hs bl tk)], [(tk, tkO g (usd bgn))], wbl, w0, w1])) : isSt g hs q F 0 0 0 bgn [[], []] w := by
  refine ⟨bl, tk, [q0, q1], wbl, [w0, w1], ?_, hA, rfl, rfl, rfl, fun i qi bi ei wi a1 a2 a3 a4 => ?_⟩
  · exact (by letI : DecidableEq (Nat × va_E) := fun _ _ => Classical.propDecidable _; exact List.perm_iff_count.mpr (fun a_ => by have e0_ := List.Perm.count_eq (hw) a_; simp only [List.flatten_cons, List.flatten_nil, jflat, List.cons_append, List.nil_append, List.count_append, List.count_cons, List.append_nil, List.count_nil, List.flatten_append, bkO, pgO, stO, eO, tkO, eA] at e0_ ⊢; omega))
  · match i, a1, a2, a3, a4 with
    | 0, a1, a2, a3, a4 => (cases a1; cases a2; cases a3; cases a4; exact h0)
    | 1, a1, a2, a3, a4 => (cases a1; cases a2; cases a3; cases a4; exact h1)
    | i + 2, a1, a2, a3, a4 => simp at a1
theorem ctX2_init {l : Launch} {g : jG} (hG : GS l g) (bg : va_W) {q cap : Nat} : KX2_init l g 10 21 [.ref q, .int (nI cap)] bg [[(q, eO 2 fdX2)]] (fun v wd => v = none ∧ ∃ hs w, wd = [w, [(hs, hsO 682 0)]] ∧ isF g hs q (fNew cap) [[], []] w) := by
  refine Ctr.of [some (.ref q), some (.int (nI cap))] hG (by decide +kernel) rfl (Nat.le_of_ble_eq_true rfl) (fun Y hl hN0 o r hI => ?_)
  subst hl
  have hN : ∀ i, i < 2 → i < yN Y := fun i h => by rw [hN0]; exact h
  refine j_ald_n o dX2_init_0 rfl rfl (q := 1) rfl ?_
  refine j_obj o (Nat.le_of_ble_eq_true rfl) dX2_init_1 q117 q110 q111 (Nat.le_of_ble_eq_true rfl) (q := 4) rfl ?_
  refine j_ald_n o dX2_init_4 rfl rfl (q := 5) rfl ?_
  refine j_bipush o (nI 40) dX2_init_5 (by decide) (q := 7) rfl ?_
  refine j_pf o dX2_init_7 0 0 rfl rfl kcX2 1 (Nat.le_of_ble_eq_true rfl) q291 rfl rfl rfl (Nat.le_of_ble_eq_true rfl) (q := 10) rfl ?_
  dsimp only [List.set]
  refine j_ald_n o dX2_init_10 rfl rfl (q := 11) rfl ?_
  refine j_bipush o (nI 80) dX2_init_11 (by decide) (q := 13) rfl ?_
  refine j_pf o dX2_init_13 0 0 rfl rfl kcX2 2 (Nat.le_of_ble_eq_true rfl) q294 rfl rfl rfl (Nat.le_of_ble_eq_true rfl) (q := 16) rfl ?_
  dsimp only [List.set]
  refine j_ald_n o dX2_init_16 rfl rfl (q := 17) rfl ?_
  refine j_new o (fs := fdX3) 1 dX2_init_17 kcX3 q118 q119 q66 dfX3 (by omega) (by decide) (q := 20) rfl (fun hs hb_hs => ?_)
  refine j_dup o dX2_init_20 rfl (q := 21) rfl ?_
  refine j_sipush o (nI 682) dX2_init_21 (by decide) (q := 24) rfl ?_
  refine j_iconst o (nI 0) dX2_init_24 (by decide) (q := 25) rfl ?_
  refine j_callI1 o (ctX3_init hG _ hs _ _) dX2_init_25 q120 wdX3_init mdX3_init rfl rfl (Nat.le_of_ble_eq_true rfl) (Nat.le_of_ble_eq_true rfl) (by omega) (Nat.le_of_ble_eq_true rfl) (q := 28) rfl (fun v wd hpost => ?_)
  obtain ⟨rfl, rfl⟩ := hpost
  dsimp only [List.cons_append, List.nil_append, Option.toList]
  refine j_pf o dX2_init_28 1 0 rfl rfl kcX2 8 (Nat.le_of_ble_eq_true rfl) q307 rfl rfl rfl (Nat.le_of_ble_eq_true rfl) (q := 31) rfl ?_
  dsimp only [List.set]
  refine j_ald_n o dX2_init_31 rfl rfl (q := 32) rfl ?_
  refine j_new o (fs := fdJ2) 1 dX2_init_32 kcJ2 q133 q134 q69 dfJ2 (by omega) (by decide) (q := 35) rfl (fun bl hb_bl => ?_)
  refine j_dup o dX2_init_35 rfl (q := 36) rfl ?_
  refine j_callI1 o (ctJ2_init hG _ bl) dX2_init_36 q135 wdJ2_init mdJ2_init rfl rfl (Nat.le_of_ble_eq_true rfl) (Nat.le_of_ble_eq_true rfl) (by omega) (Nat.le_of_ble_eq_true rfl) (q := 39) rfl (fun v wd hpost => ?_)
  obtain ⟨rfl, wbl, rfl, hA⟩ := hpost
  dsimp only [List.cons_append, List.nil_append, Option.toList]
  refine j_pfF o dX2_init_39 (hI rfl) 2 0 rfl rfl kcX2 9 (Nat.le_of_ble_eq_true rfl) q309 rfl rfl rfl rfl (Nat.le_of_ble_eq_true rfl) (q := 42) rfl ?_
  dsimp only [List.set]
  refine j_ald_n o dX2_init_42 rfl rfl (q := 43) rfl ?_
  refine j_bipush o (nI 96) dX2_init_43 (by decide) (q := 45) rfl ?_
  refine j_newZ o 8 dX2_init_45 (by first | decide | omega) (by omega) (by first | decide | omega) (q := 47) rfl (fun tk hb_tk => ?_)
  refine j_pfF o dX2_init_47 (hI rfl) 3 0 rfl rfl kcX2 10 (Nat.le_of_ble_eq_true rfl) q311 rfl rfl rfl rfl (Nat.le_of_ble_eq_true rfl) (q := 50) rfl ?_
  dsimp only [List.set]
  refine j_ald_n o dX2_init_50 rfl rfl (q := 51) rfl ?_
  refine j_ild_n o dX2_init_51 rfl (q := 52) rfl ?_
  refine j_pfF o dX2_init_52 (hI rfl) 3 0 rfl rfl kcX2 0 (Nat.le_of_ble_eq_true rfl) q289 rfl rfl rfl rfl (Nat.le_of_ble_eq_true rfl) (q := 55) rfl ?_
  dsimp only [List.set]
  refine j_ald_n o dX2_init_55 rfl rfl (q := 56) rfl ?_
  refine j_mv3 ?_
  refine j_callV3 o (ctX2_begin hG _ (cap := cap) (F := (cap, 40, 80, 0, 0)) hA) dX2_init_56 q162 wdX2_begin mdX2_begin (jw 0 0 rfl rfl) (by rfl) (by rfl) rfl (Nat.le_of_ble_eq_true rfl) (Nat.le_of_ble_eq_true rfl) (by omega) (Nat.le_of_ble_eq_true rfl) (q := 59) rfl (fun v wd hpost => ?_)
  obtain ⟨rfl, q0, q1, wbl2, w0, w1, rfl, hA2, hB0, hB1⟩ := hpost
  dsimp only [List.cons_append, List.nil_append, Option.toList]
  refine j_mgN [_, _, _, _, _] (fun w hw => ?_)
  first | dsimp only [List.cons_append, List.nil_append] | skip
  exact j_vret o r dX2_init_59 [_, _] _ rfl (⟨rfl, hs, w, rfl, (show isSt g hs q (cap, 40, 80, 0, 0) (lvl bgn.length) (ptr bgn.length) (rws bgn) bgn [[], []] w by rw [bgn_lv.1, bgn_lv.2.1, bgn_lv.2.2]; exact bgn_st hA2 hB0 hB1 hw)⟩) (by omega)
