/-! THE DESK, seventeenth: behind a crash; whether all is sound -/
set_option maxRecDepth 100000
theorem okAll.safe {D : Dk} (h : InvD D) : InvF (dSafe D) := okAll.inv h.2.1 h.2.2.1.take
theorem ctX1_crashedNowN {l : Launch} {g : jG} (hG : GS l g) (bg : va_W) {x : Nat} {D : Dk} (hD : rD g bg x D) (hI : InvD D) : KX1_crashedNow l g 15 (uRec D) [.ref x, .int (-1)] bg [] (fun y wd => y = some (.int (nI (rws (fB (dSafe D))) - nI (rws (fB (dF D))))) ∧ wd = []) := by
  obtain ⟨f, kk, lg, cl, io, mk, hf, hk9, ess, essk, xs, c0, c1, c2, mv, a1, a2, hE, a4, -⟩ := id hD
  obtain ⟨bl, tk, qs, r1, -⟩ := id a2
  refine Ctr.of [some (.ref x), some (.int (-1)), none, none] hG (by decide +kernel) rfl (Nat.le_of_ble_eq_true rfl) (fun Y hl hN0 o r hIni => ?_)
  subst hl
  have hN : ∀ i, i < 4 → i < yN Y := fun i h => by rw [hN0]; exact h
  refine j_ald_n o dX1_crashedNow_0 rfl rfl (q := 1) rfl ?_
  refine j_callV0 o (ctD_recovered hG _ (hD.mono (fun _ => jmr)) hI) dX1_crashedNow_1 q462 wdX1_recovered mdX1_recovered (jb a1) (by rfl) (by rfl) rfl (Nat.le_of_ble_eq_true rfl) (Nat.le_of_ble_eq_true rfl) (by omega) (Nat.le_of_ble_eq_true rfl) (q := 4) rfl (fun v wd hpost => ?_)
  obtain ⟨q2, h2, ess2, w2, we2, wh, rfl, rfl, hF2, hE2, hh2⟩ := hpost
  dsimp only [List.cons_append, List.nil_append, Option.toList]
  obtain ⟨bl2, tk2, qs2, z1, -⟩ := isSt.r (S := w2) hF2 (fun _ h => h)
  refine j_ast2 o dX1_crashedNow_4 rfl rfl (hN 2 (Nat.le_of_ble_eq_true rfl)) (q := 5) rfl ?_
  refine j_ild_n o dX1_crashedNow_5 rfl (q := 6) rfl ?_
  refine j_iconst o (-1) dX1_crashedNow_6 (by decide) (q := 7) rfl ?_
  refine j_icneF o (t := 23) dX1_crashedNow_7 (by decide) (q := 10) rfl rfl ?_
  refine j_ald_n o dX1_crashedNow_10 rfl rfl (q := 11) rfl ?_
  refine j_gf o dX1_crashedNow_11 (jwm 0 rfl z1) kcX2 5 (Nat.le_of_ble_eq_true rfl) q302 rfl (q := 14) rfl ?_
  refine j_ald_n o dX1_crashedNow_14 rfl rfl (q := 15) rfl ?_
  refine j_gf o dX1_crashedNow_15 (jb a1) kcX1 7 (Nat.le_of_ble_eq_true rfl) q360 rfl (q := 18) rfl ?_
  refine j_gf o dX1_crashedNow_18 (jb r1) kcX2 5 (Nat.le_of_ble_eq_true rfl) q302 rfl (q := 21) rfl ?_
  refine j_isub o dX1_crashedNow_21 (q := 22) rfl ?_
  exact j_ret o r dX1_crashedNow_22 rfl [] _ rfl (⟨rfl, rfl⟩) (by omega)
theorem ctX1_crashedNow {l : Launch} {g : jG} (hG : GS l g) (bg : va_W) {x k : Nat} {D : Dk} (hD : rD g bg x D) (hI : InvD D) (hk : k ≤ 9999) : KX1_crashedNow l g 15 (uRec D) [.ref x, .int (nI k)] bg [] (fun y wd => y = some (.int (gA (fGt (dSafe D) k))) ∧ wd = []) := by
  obtain ⟨f, kk, lg, cl, io, mk, hf, hk9, ess, essk, xs, c0, c1, c2, mv, a1, a2, hE, a4, -⟩ := id hD
  obtain ⟨bl, tk, qs, r1, -⟩ := id a2
  have hIS := okAll.safe hI
  refine Ctr.of [some (.ref x), some (.int (nI k)), none, none] hG (by decide +kernel) rfl (Nat.le_of_ble_eq_true rfl) (fun Y hl hN0 o r hIni => ?_)
  subst hl
  have hN : ∀ i, i < 4 → i < yN Y := fun i h => by rw [hN0]; exact h
  refine j_ald_n o dX1_crashedNow_0 rfl rfl (q := 1) rfl ?_
  refine j_callV0 o (ctD_recovered hG _ (hD.mono (fun _ => jmr)) hI) dX1_crashedNow_1 q462 wdX1_recovered mdX1_recovered (jb a1) (by rfl) (by rfl) rfl (Nat.le_of_ble_eq_true rfl) (Nat.le_of_ble_eq_true rfl) (by omega) (Nat.le_of_ble_eq_true rfl) (q := 4) rfl (fun v wd hpost => ?_)
  obtain ⟨q2, h2, ess2, w2, we2, wh, rfl, rfl, hF2, hE2, hh2⟩ := hpost
  dsimp only [List.cons_append, List.nil_append, Option.toList]
  have hR2 := isSt.r (S := w2) hF2 (fun _ h => h)
  obtain ⟨bl2, tk2, qs2, z1, -⟩ := id hR2
  refine j_ast2 o dX1_crashedNow_4 rfl rfl (hN 2 (Nat.le_of_ble_eq_true rfl)) (q := 5) rfl ?_
  refine j_ild_n o dX1_crashedNow_5 rfl (q := 6) rfl ?_
  refine j_iconst o (-1) dX1_crashedNow_6 (by decide) (q := 7) rfl ?_
  refine j_icneT o 23 dX1_crashedNow_7 (by decide) (fun h => nI_pos (n := k) (by omega) (by rw [h]; decide)) ?_
  refine j_ald_n o dX1_crashedNow_23 rfl rfl (q := 24) rfl ?_
  refine j_ild_n o dX1_crashedNow_24 rfl (q := 25) rfl ?_
  refine j_callV0 o (ctX2_get hG _ (hR2.mono (fun _ h => jwl 0 rfl h)) (hE2.mono (fun _ h => jwl 1 rfl h)) (hh2.elim (fun h => jmr (by simpa using h)) (fun h => jwl 2 rfl h)) hIS.1 hIS.2.1 hIS.2.2.1 (by omega)) dX1_crashedNow_25 q1034 wdX2_get mdX2_get (jwm 0 rfl z1) (by rfl) (by rfl) rfl (Nat.le_of_ble_eq_true rfl) (Nat.le_of_ble_eq_true rfl) (by omega) (Nat.le_of_ble_eq_true rfl) (q := 28) rfl (fun v wd hpost => ?_)
  obtain ⟨hres, rfl⟩ := hpost
  dsimp only [List.cons_append, List.nil_append, Option.toList]
  rcases getRes hIS.1 hE2 hres with ⟨e, r9, rfl, he, hg⟩ | ⟨rfl, hg⟩
  · refine j_ast3 o dX1_crashedNow_28 rfl rfl (hN 3 (Nat.le_of_ble_eq_true rfl)) (q := 29) rfl ?_
    refine j_ald_n o dX1_crashedNow_29 rfl rfl (q := 30) rfl ?_
    refine j_ifnn o 37 dX1_crashedNow_30 (by decide) ?_
    refine j_ald_n o dX1_crashedNow_37 rfl rfl (q := 38) rfl ?_
    refine j_gf o dX1_crashedNow_38 (jwm 1 rfl he) kcX11 1 (Nat.le_of_ble_eq_true rfl) q451 rfl (q := 41) rfl ?_
    exact j_ret o r dX1_crashedNow_41 rfl [] _ rfl (⟨by rw [show fGt (dSafe D) k = some r9.2 from hg]; rfl, rfl⟩) (by omega)
  · refine j_ast3 o dX1_crashedNow_28 rfl rfl (hN 3 (Nat.le_of_ble_eq_true rfl)) (q := 29) rfl ?_
    refine j_ald_n o dX1_crashedNow_29 rfl rfl (q := 30) rfl ?_
    refine j_ifnnN o dX1_crashedNow_30 (q := 33) rfl ?_
    refine j_iconst o (-1) dX1_crashedNow_33 (by decide) (q := 34) rfl ?_
    refine j_goto o 41 dX1_crashedNow_34 (by decide) ?_
    exact j_ret o r dX1_crashedNow_41 rfl [] _ rfl (⟨by rw [show fGt (dSafe D) k = none from hg]; rfl, rfl⟩) (by omega)
theorem m1_in : (-1 : Int32) ≤ -1 ∧ (-1 : Int32) ≤ nI 9999 := by decide
theorem ctX1_crashedN {l : Launch} {g : jG} (hG : GS l g) (bg : va_W) {x : Nat} {D : Dk} (hD : rD g bg x D) (hI : InvD D) : KX1_crashed l g 16 (uRec D) [.ref x, .int (-1)] bg [] (fun y wd => y = some (.int (nI (rws (fB (dSafe D))) - nI (rws (fB (dF D))))) ∧ wd = []) := by
  obtain ⟨f, kk, lg, cl, io, mk, hf, hk9, ess, essk, xs, c0, c1, c2, mv, a1, -⟩ := id hD
  refine Ctr.of [some (.ref x), some (.int (-1))] hG (by decide +kernel) rfl (Nat.le_of_ble_eq_true rfl) (fun Y hl hN0 o r hIni => ?_)
  subst hl
  have hN : ∀ i, i < 2 → i < yN Y := fun i h => by rw [hN0]; exact h
  refine j_ild_n o dX1_crashed_0 rfl (q := 1) rfl ?_
  refine j_iconst o (-1) dX1_crashed_1 (by decide) (q := 2) rfl ?_
  refine j_sipush o (nI 9999) dX1_crashed_2 (by decide) (q := 5) rfl ?_
  refine j_callS0 o (ctX1_isIn hG _ _ _ _) dX1_crashed_5 q1057 wdX1_isIn mdX1_isIn rfl (Nat.le_of_ble_eq_true rfl) (Nat.le_of_ble_eq_true rfl) (by omega) (Nat.le_of_ble_eq_true rfl) (q := 8) rfl (fun v wd hpost => ?_)
  obtain ⟨rfl, rfl⟩ := hpost
  dsimp only [List.cons_append, List.nil_append, Option.toList]
  rw [show (if (-1 : Int32) ≤ -1 ∧ (-1 : Int32) ≤ nI 9999 then 1 else 0 : Nat) = 1 from if_pos m1_in]
  refine j_callS0 o (ctX1_mustFit hG _ rfl) dX1_crashed_8 q1060 wdX1_mustFit mdX1_mustFit rfl (Nat.le_of_ble_eq_true rfl) (Nat.le_of_ble_eq_true rfl) (by omega) (Nat.le_of_ble_eq_true rfl) (q := 11) rfl (fun v wd hpost => ?_)
  obtain ⟨rfl, rfl⟩ := hpost
  dsimp only [List.cons_append, List.nil_append, Option.toList]
  refine j_ald_n o dX1_crashed_11 rfl rfl (q := 12) rfl ?_
  refine j_ild_n o dX1_crashed_12 rfl (q := 13) rfl ?_
  refine j_callV0 o (ctX1_crashedNowN hG _ (hD.mono (fun _ => jmr)) hI) dX1_crashed_13 q1030 wdX1_crashedNow mdX1_crashedNow (jb a1) (by rfl) (by rfl) rfl (Nat.le_of_ble_eq_true rfl) (Nat.le_of_ble_eq_true rfl) (by omega) (Nat.le_of_ble_eq_true rfl) (q := 16) rfl (fun v wd hpost => ?_)
  obtain ⟨rfl, rfl⟩ := hpost
  dsimp only [List.cons_append, List.nil_append, Option.toList]
  exact j_ret o r dX1_crashed_16 rfl [] _ rfl (⟨rfl, rfl⟩) (by omega)
theorem m1_le {k : Nat} (hk : k < 2 ^ 31) : (-1 : Int32) ≤ nI k := by
  rw [Int32.le_iff_toInt_le, show nI k = Int32.ofNat k from rfl, Int32.toInt_ofNat_of_lt (by omega), show (-1 : Int32).toInt = -1 by decide]
  omega
theorem ctX1_crashed {l : Launch} {g : jG} (hG : GS l g) (bg : va_W) {x k : Nat} {D : Dk} (hD : rD g bg x D) (hI : InvD D) (hk : k ≤ 9999) : KX1_crashed l g 16 (uRec D) [.ref x, .int (nI k)] bg [] (fun y wd => y = some (.int (gA (fGt (dSafe D) k))) ∧ wd = []) := by
  obtain ⟨f, kk, lg, cl, io, mk, hf, hk9, ess, essk, xs, c0, c1, c2, mv, a1, -⟩ := id hD
  refine Ctr.of [some (.ref x), some (.int (nI k))] hG (by decide +kernel) rfl (Nat.le_of_ble_eq_true rfl) (fun Y hl hN0 o r hIni => ?_)
  subst hl
  have hN : ∀ i, i < 2 → i < yN Y := fun i h => by rw [hN0]; exact h
  refine j_ild_n o dX1_crashed_0 rfl (q := 1) rfl ?_
  refine j_iconst o (-1) dX1_crashed_1 (by decide) (q := 2) rfl ?_
  refine j_sipush o (nI 9999) dX1_crashed_2 (by decide) (q := 5) rfl ?_
  refine j_callS0 o (ctX1_isIn hG _ _ _ _) dX1_crashed_5 q1057 wdX1_isIn mdX1_isIn rfl (Nat.le_of_ble_eq_true rfl) (Nat.le_of_ble_eq_true rfl) (by omega) (Nat.le_of_ble_eq_true rfl) (q := 8) rfl (fun v wd hpost => ?_)
  obtain ⟨rfl, rfl⟩ := hpost
  dsimp only [List.cons_append, List.nil_append, Option.toList]
  rw [show (if (-1 : Int32) ≤ nI k ∧ nI k ≤ nI 9999 then 1 else 0 : Nat) = 1 from if_pos ⟨m1_le (by omega), nI_le hk (by omega)⟩]
  refine j_callS0 o (ctX1_mustFit hG _ rfl) dX1_crashed_8 q1060 wdX1_mustFit mdX1_mustFit rfl (Nat.le_of_ble_eq_true rfl) (Nat.le_of_ble_eq_true rfl) (by omega) (Nat.le_of_ble_eq_true rfl) (q := 11) rfl (fun v wd hpost => ?_)
  obtain ⟨rfl, rfl⟩ := hpost
  dsimp only [List.cons_append, List.nil_append, Option.toList]
  refine j_ald_n o dX1_crashed_11 rfl rfl (q := 12) rfl ?_
  refine j_ild_n o dX1_crashed_12 rfl (q := 13) rfl ?_
  refine j_callV0 o (ctX1_crashedNow hG _ (hD.mono (fun _ => jmr)) hI hk) dX1_crashed_13 q1030 wdX1_crashedNow mdX1_crashedNow (jb a1) (by rfl) (by rfl) rfl (Nat.le_of_ble_eq_true rfl) (Nat.le_of_ble_eq_true rfl) (by omega) (Nat.le_of_ble_eq_true rfl) (q := 16) rfl (fun v wd hpost => ?_)
  obtain ⟨rfl, rfl⟩ := hpost
  dsimp only [List.cons_append, List.nil_append, Option.toList]
  exact j_ret o r dX1_crashed_16 rfl [] _ rfl (⟨rfl, rfl⟩) (by omega)
theorem ctxX1_crashed {l : Launch} {g : jG} (hG : GS l g) (bg : va_W) {x : Nat} {p : Int32} (h : ¬ ((-1 : Int32) ≤ p ∧ p ≤ nI 9999)) : EX1_crashed l g 8 1 [.ref x, .int p] bg xIAE := by
  refine CtrX.of [some (.ref x), some (.int p)] hG (by decide +kernel) rfl (Nat.le_of_ble_eq_true rfl) (fun Y hl hN0 o r => ?_)
  subst hl
  have hN : ∀ i, i < 2 → i < yN Y := fun i h => by rw [hN0]; exact h
  refine j_ild_n o dX1_crashed_0 rfl (q := 1) rfl ?_
  refine j_iconst o (-1) dX1_crashed_1 (by decide) (q := 2) rfl ?_
  refine j_sipush o (nI 9999) dX1_crashed_2 (by decide) (q := 5) rfl ?_
  refine j_callS0 o (ctX1_isIn hG _ _ _ _) dX1_crashed_5 q1057 wdX1_isIn mdX1_isIn rfl (Nat.le_of_ble_eq_true rfl) (Nat.le_of_ble_eq_true rfl) (by omega) (Nat.le_of_ble_eq_true rfl) (q := 8) rfl (fun v wd hpost => ?_)
  obtain ⟨rfl, rfl⟩ := hpost
  dsimp only [List.cons_append, List.nil_append, Option.toList]
  rw [show (if (-1 : Int32) ≤ p ∧ p ≤ nI 9999 then 1 else 0 : Nat) = 0 from if_neg h]
  exact j_callXS o (ctxX1_mustFit hG _) dX1_crashed_8 q1060 wdX1_mustFit mdX1_mustFit rfl (Nat.le_of_ble_eq_true rfl) (Nat.le_of_ble_eq_true rfl) (by omega) (Nat.le_of_ble_eq_true rfl) (j_outX o r (by omega))
theorem pg_cnt {cap m n k : Nat} (hk : k < m) (h1 : n ≤ m * cap) (h2 : m = 1 ∨ (m - 1) * cap < n) : (k + 1 ≠ m → min cap (n - k * cap) = cap) ∧ (0 < k → 0 < cap → 0 < min cap (n - k * cap)) := by
  have hm : k * cap ≤ (m - 1) * cap := Nat.mul_le_mul_right _ (by omega)
  constructor
  · intro h
    have h3 : (k + 1) * cap ≤ (m - 1) * cap := Nat.mul_le_mul_right _ (by omega)
    rw [Nat.succ_mul] at h3
    rcases h2 with h2 | h2 <;> omega
  · intro h0 hc
    rcases h2 with h2 | h2 <;> omega
theorem ctX1_isChainSound {l : Launch} {g : jG} (hG : GS l g) (bg : va_W) {x f k lg cl io mk q sz lv pt hs bl tk qb fl : Nat} {n : N7} {F : K5} {es pages : List Nat} (hx : (x, dkO n f k lg cl io mk) ∈ bg) (hq : (f, stO F lv pt sz hs bl tk) ∈ bg) (hB : bkR g bg F.1 qb es pages fl) (h1 : es.length ≤ pages.length * F.1) (h2 : pages.length = 1 ∨ (pages.length - 1) * F.1 < es.length) (hm : pages.length < 2 ^ 10) (hc : 2 ≤ F.1 ∧ F.1 ≤ 4) : KX1_isChainSound l g 4 0 [.ref x, .ref qb] bg [] (fun y wd => y = some (.int (nI 1)) ∧ wd = []) := by
  obtain ⟨ch, ps, b1, b2, b3⟩ := hB
  obtain ⟨m6, b6, hz6, -⟩ := id b2
  have hlen := b3.1
  refine Ctr.of [some (.ref x), some (.ref qb), none, none, none] hG (by decide +kernel) rfl (Nat.le_of_ble_eq_true rfl) (fun Y hl hN0 o r hIni => ?_)
  subst hl
  have hN : ∀ i, i < 5 → i < yN Y := fun i h => by rw [hN0]; exact h
  have loop : ∀ (d j : Nat) (y3 y4 : Option Value), j + d = ps.length → J g Y [] 0 2 [some (.ref x), some (.ref qb), some (.int (nI j)), y3, y4] [] := by
    intro d
    induction d with
    | zero =>
      intro j y3 y4 hj
      refine j_ild_n o dX1_isChainSound_2 rfl (q := 3) rfl ?_
      refine j_ald_n o dX1_isChainSound_3 rfl rfl (q := 4) rfl ?_
      refine j_gf o dX1_isChainSound_4 (jb b1) kcX4 0 (Nat.le_of_ble_eq_true rfl) q184 rfl (q := 7) rfl ?_
      refine j_callV0 o (ctJ2_size hG _ (jmr hz6)) dX1_isChainSound_7 q398 wdJ2_size mdJ2_size (jb hz6) (by rfl) (by rfl) rfl (Nat.le_of_ble_eq_true rfl) (Nat.le_of_ble_eq_true rfl) (by omega) (Nat.le_of_ble_eq_true rfl) (q := 10) rfl (fun v wd hpost => ?_)
      obtain ⟨rfl, rfl⟩ := hpost
      dsimp only [List.cons_append, List.nil_append, Option.toList]
      refine j_icgeT o 94 dX1_isChainSound_10 (by decide) (nI_le (by omega) (by omega)) ?_
      refine j_iconst o (nI 1) dX1_isChainSound_94 (by decide) (q := 95) rfl ?_
      exact j_ret o r dX1_isChainSound_95 rfl [] _ rfl (⟨rfl, rfl⟩) (by omega)
    | succ d ih =>
      intro j y3 y4 hj
      obtain ⟨p, hp⟩ := get_ex (xs := ps) (i := j) (by omega)
      obtain ⟨n9, rl, hn, hpc, hAp⟩ := b3.2 _ p hp
      obtain ⟨m7, b7, hz7, -⟩ := id hAp
      have hpl := pgE_len F.1 es j
      obtain ⟨g1, g2⟩ := pg_cnt (k := j) (by omega) h1 h2
      rw [← hpl] at g1 g2
      have step : ∀ y9 : Option Value, J g Y [] 0 88 [some (.ref x), some (.ref qb), some (.int (nI j)), some (.int (nI (pgE F.1 es j).length)), y9] [] := by
        intro y9
        refine j_inc2 o (nI (j + 1)) dX1_isChainSound_88 (by first | exact nI_1 _ | exact pk_m1 _ | rfl) rfl (q := 91) rfl ?_
        refine j_goto o 2 dX1_isChainSound_91 (by decide) ?_
        exact ih (j + 1) _ _ (by omega)
      have last : ∀ y9 : Option Value, J g Y [] 0 78 [some (.ref x), some (.ref qb), some (.int (nI j)), some (.int (nI (pgE F.1 es j).length)), y9] [] := by
        intro y9
        refine j_ild_n o dX1_isChainSound_78 rfl (q := 79) rfl ?_
        by_cases hj0 : j = 0
        · refine j_ifleT o 88 dX1_isChainSound_79 (by decide) (by show nI j ≤ nI 0; rw [hj0]; decide) ?_
          exact step _
        · refine j_ifleF o (t := 88) dX1_isChainSound_79 (by decide) (q := 82) rfl (by show ¬ nI j ≤ nI 0; exact nI_ge (by omega) (by omega)) ?_
          have := g2 (by omega) (by omega)
          refine j_ild_n o dX1_isChainSound_82 rfl (q := 83) rfl ?_
          refine j_ifneT o 88 dX1_isChainSound_83 (by decide) (nI_n0 (by omega) (by omega)) ?_
          exact step _
      refine j_ild_n o dX1_isChainSound_2 rfl (q := 3) rfl ?_
      refine j_ald_n o dX1_isChainSound_3 rfl rfl (q := 4) rfl ?_
      refine j_gf o dX1_isChainSound_4 (jb b1) kcX4 0 (Nat.le_of_ble_eq_true rfl) q184 rfl (q := 7) rfl ?_
      refine j_callV0 o (ctJ2_size hG _ (jmr hz6)) dX1_isChainSound_7 q398 wdJ2_size mdJ2_size (jb hz6) (by rfl) (by rfl) rfl (Nat.le_of_ble_eq_true rfl) (Nat.le_of_ble_eq_true rfl) (by omega) (Nat.le_of_ble_eq_true rfl) (q := 10) rfl (fun v wd hpost => ?_)
      obtain ⟨rfl, rfl⟩ := hpost
      dsimp only [List.cons_append, List.nil_append, Option.toList]
      refine j_icgeF o (t := 94) dX1_isChainSound_10 (by decide) (q := 13) rfl (nI_ge (by omega) (by omega)) ?_
      refine j_ald_n o dX1_isChainSound_13 rfl rfl (q := 14) rfl ?_
      refine j_gf o dX1_isChainSound_14 (jb b1) kcX4 0 (Nat.le_of_ble_eq_true rfl) q184 rfl (q := 17) rfl ?_
      refine j_ild_n o dX1_isChainSound_17 rfl (q := 18) rfl ?_
      refine j_callV0 o (ctJ2_get hG _ (b2.mono (fun _ => jmr)) hp) dX1_isChainSound_18 q466 wdJ2_get mdJ2_get (jb hz6) (by rfl) (by rfl) rfl (Nat.le_of_ble_eq_true rfl) (Nat.le_of_ble_eq_true rfl) (by omega) (Nat.le_of_ble_eq_true rfl) (q := 21) rfl (fun v wd hpost => ?_)
      obtain ⟨rfl, rfl⟩ := hpost
      dsimp only [List.cons_append, List.nil_append, Option.toList]
      refine j_castS (r := (RX5, TX5, 2)) o dX1_isChainSound_21 q657 (jb hpc) (ci := 5) rfl (q := 24) rfl ?_
      refine j_gf o dX1_isChainSound_24 (jb hpc) kcX5 1 (Nat.le_of_ble_eq_true rfl) q211 rfl (q := 27) rfl ?_
      refine j_callV0 o (ctJ2_size hG _ (jmr hz7)) dX1_isChainSound_27 q398 wdJ2_size mdJ2_size (jb hz7) (by rfl) (by rfl) rfl (Nat.le_of_ble_eq_true rfl) (Nat.le_of_ble_eq_true rfl) (by omega) (Nat.le_of_ble_eq_true rfl) (q := 30) rfl (fun v wd hpost => ?_)
      obtain ⟨rfl, rfl⟩ := hpost
      dsimp only [List.cons_append, List.nil_append, Option.toList]
      refine j_ist3 o dX1_isChainSound_30 rfl (hN 3 (Nat.le_of_ble_eq_true rfl)) (q := 31) rfl ?_
      refine j_ild_n o dX1_isChainSound_31 rfl (q := 32) rfl ?_
      refine j_iconst o (nI 1) dX1_isChainSound_32 (by decide) (q := 33) rfl ?_
      refine j_iadd o dX1_isChainSound_33 (q := 34) rfl ?_
      refine j_topi o (nI (j + 1)) (nI_1 _) ?_
      refine j_ald_n o dX1_isChainSound_34 rfl rfl (q := 35) rfl ?_
      refine j_gf o dX1_isChainSound_35 (jb b1) kcX4 0 (Nat.le_of_ble_eq_true rfl) q184 rfl (q := 38) rfl ?_
      refine j_callV0 o (ctJ2_size hG _ (jmr hz6)) dX1_isChainSound_38 q398 wdJ2_size mdJ2_size (jb hz6) (by rfl) (by rfl) rfl (Nat.le_of_ble_eq_true rfl) (Nat.le_of_ble_eq_true rfl) (by omega) (Nat.le_of_ble_eq_true rfl) (q := 41) rfl (fun v wd hpost => ?_)
      obtain ⟨rfl, rfl⟩ := hpost
      dsimp only [List.cons_append, List.nil_append, Option.toList]
      by_cases hl : j + 1 = ps.length
      · refine j_icneF o (t := 48) dX1_isChainSound_41 (by decide) (q := 44) rfl (by rw [hl]) ?_
        refine j_iconst o (nI 1) dX1_isChainSound_44 (by decide) (q := 45) rfl ?_
        refine j_goto o 49 dX1_isChainSound_45 (by decide) ?_
        refine j_ist4 o dX1_isChainSound_49 rfl (hN 4 (Nat.le_of_ble_eq_true rfl)) (q := 51) rfl ?_
        refine j_ild_n o dX1_isChainSound_51 rfl (q := 52) rfl ?_
        refine j_ald_n o dX1_isChainSound_52 rfl rfl (q := 53) rfl ?_
        refine j_gf o dX1_isChainSound_53 (jb hx) kcX1 7 (Nat.le_of_ble_eq_true rfl) q360 rfl (q := 56) rfl ?_
        refine j_gf o dX1_isChainSound_56 (jb hq) kcX2 0 (Nat.le_of_ble_eq_true rfl) q290 rfl (q := 59) rfl ?_
        refine j_icgtF o (t := 86) dX1_isChainSound_59 (by decide) (q := 62) rfl (by rw [nI_ltI (by omega) (by omega)]; omega) ?_
        refine j_ild o dX1_isChainSound_62 rfl (q := 64) rfl ?_
        refine j_ifneT o 78 dX1_isChainSound_64 (by decide) (by decide) ?_
        exact last _
      · have := g1 (by omega)
        refine j_icneT o 48 dX1_isChainSound_41 (by decide) (fun h => hl ((nI_eq (by omega) (by omega)).mp h)) ?_
        refine j_iconst o (nI 0) dX1_isChainSound_48 (by decide) (q := 49) rfl ?_
        refine j_ist4 o dX1_isChainSound_49 rfl (hN 4 (Nat.le_of_ble_eq_true rfl)) (q := 51) rfl ?_
        refine j_ild_n o dX1_isChainSound_51 rfl (q := 52) rfl ?_
        refine j_ald_n o dX1_isChainSound_52 rfl rfl (q := 53) rfl ?_
        refine j_gf o dX1_isChainSound_53 (jb hx) kcX1 7 (Nat.le_of_ble_eq_true rfl) q360 rfl (q := 56) rfl ?_
        refine j_gf o dX1_isChainSound_56 (jb hq) kcX2 0 (Nat.le_of_ble_eq_true rfl) q290 rfl (q := 59) rfl ?_
        refine j_icgtF o (t := 86) dX1_isChainSound_59 (by decide) (q := 62) rfl (by rw [nI_ltI (by omega) (by omega)]; omega) ?_
        refine j_ild o dX1_isChainSound_62 rfl (q := 64) rfl ?_
        refine j_ifneF o (t := 78) dX1_isChainSound_64 (by decide) (q := 67) rfl rfl ?_
        refine j_ild_n o dX1_isChainSound_67 rfl (q := 68) rfl ?_
        refine j_ald_n o dX1_isChainSound_68 rfl rfl (q := 69) rfl ?_
        refine j_gf o dX1_isChainSound_69 (jb hx) kcX1 7 (Nat.le_of_ble_eq_true rfl) q360 rfl (q := 72) rfl ?_
        refine j_gf o dX1_isChainSound_72 (jb hq) kcX2 0 (Nat.le_of_ble_eq_true rfl) q290 rfl (q := 75) rfl ?_
        refine j_icltF o (t := 86) dX1_isChainSound_75 (by decide) (q := 78) rfl (by rw [nI_ltI (by omega) (by omega)]; omega) ?_
        exact last _
  refine j_iconst o (nI 0) dX1_isChainSound_0 (by decide) (q := 1) rfl ?_
  refine j_ist2 o dX1_isChainSound_1 rfl (hN 2 (Nat.le_of_ble_eq_true rfl)) (q := 2) rfl ?_
  exact loop ps.length 0 _ _ (by omega)
theorem ctX1_isBucketSound {l : Launch} {g : jG} (hG : GS l g) (bg : va_W) {x b : Nat} {D : Dk} (hD : rD g bg x D) (hI : InvD D) (hb : b < (fB (dF D)).length) : KX1_isBucketSound l g 7 (uBall (fC (dF D)) (bAt (fB (dF D)) b).1.length (bAt (fB (dF D)) b).2.1.length) [.ref x, .int (nI b)] bg [] (fun y wd => y = some (.int (nI 1)) ∧ wd = []) := by
  obtain ⟨f, kk, lg, cl, io, mk, hf, hk9, ess, essk, xs, c0, c1, c2, mv, a1, a2, hE, a4, -⟩ := id hD
  obtain ⟨bl, tk, qs, r1, r2, r3, r4, r5, r6⟩ := id a2
  obtain ⟨m5, b5, hz5, -⟩ := id r3
  obtain ⟨hfi, had⟩ := hI.1.1
  have f3 := hfi.2.2.1
  have f4 := hfi.2.2.2.1
  have f5 := hfi.2.2.2.2.1
  obtain ⟨qb, hqb⟩ := get_ex (xs := qs) (i := b) (by omega)
  obtain ⟨es, hes⟩ := get_ex (xs := ess) (i := b) (by omega)
  have hB := bAt_ex hb
  have hbR := r6 _ _ _ _ hqb hB hes
  obtain ⟨chn, ps, b1, b2, b3⟩ := id hbR
  have hER := hE.2 _ es _ hes hB
  obtain ⟨k1, k2x, k3, k4, k5⟩ := hfi.2.2.2.2.2.1.at hb
  have hrw := rws_at hb
  have hER1 := hER.1
  have hlv := lvl_lt (n := (fB (dF D)).length) (by omega)
  have hpl := ptr_le (n := (fB (dF D)).length)
  obtain ⟨hr, hnd⟩ := had b _ hB
  have eU : uBall (fK5 (dF D)).1 es.length (bAt (fB (dF D)) b).2.1.length = uBall (fC (dF D)) es.length (bAt (fB (dF D)) b).2.1.length := rfl
  rw [← hER1]
  refine Ctr.of [some (.ref x), some (.int (nI b)), none, none, none, none, none] hG (by decide +kernel) rfl (Nat.le_of_ble_eq_true rfl) (fun Y hl hN0 o r hIni => ?_)
  subst hl
  have hN : ∀ i, i < 7 → i < yN Y := fun i h => by rw [hN0]; exact h
  refine j_ald_n o dX1_isBucketSound_0 rfl rfl (q := 1) rfl ?_
  refine j_gf o dX1_isBucketSound_1 (jb a1) kcX1 7 (Nat.le_of_ble_eq_true rfl) q360 rfl (q := 4) rfl ?_
  refine j_gf o dX1_isBucketSound_4 (jb r1) kcX2 9 (Nat.le_of_ble_eq_true rfl) q310 rfl (q := 7) rfl ?_
  refine j_ild_n o dX1_isBucketSound_7 rfl (q := 8) rfl ?_
  refine j_callV0 o (ctJ2_get hG _ (r3.mono (fun _ => jmr)) hqb) dX1_isBucketSound_8 q466 wdJ2_get mdJ2_get (jb hz5) (by rfl) (by rfl) rfl (Nat.le_of_ble_eq_true rfl) (Nat.le_of_ble_eq_true rfl) (by omega) (Nat.le_of_ble_eq_true rfl) (q := 11) rfl (fun v wd hpost => ?_)
  obtain ⟨rfl, rfl⟩ := hpost
  dsimp only [List.cons_append, List.nil_append, Option.toList]
  refine j_castS (r := (RX4, TX4, 2)) o dX1_isBucketSound_11 q644 (jb b1) (ci := 4) rfl (q := 14) rfl ?_
  refine j_ast2 o dX1_isBucketSound_14 rfl rfl (hN 2 (Nat.le_of_ble_eq_true rfl)) (q := 15) rfl ?_
  refine j_ald_n o dX1_isBucketSound_15 rfl rfl (q := 16) rfl ?_
  refine j_callV0 o (ctX4_all hG _ (hbR.mono (fun _ => jmr)) (fun y hy => (hER.el y hy).mono (fun _ => jmr)) (by rw [hER1]; exact k2x) (by omega)) dX1_isBucketSound_16 q645 wdX4_all mdX4_all (jb b1) (by rfl) (by rfl) rfl (Nat.le_of_ble_eq_true rfl) (Nat.le_of_ble_eq_true rfl) (by omega) (Nat.le_of_ble_eq_true rfl) (q := 19) rfl (fun v wd hpost => ?_)
  obtain ⟨ab, wb, rfl, rfl, hAb⟩ := hpost
  dsimp only [List.cons_append, List.nil_append, Option.toList]
  obtain ⟨m6, b6, hz6, -⟩ := hAb.r (S := wb) (fun _ h => h)
  have hAr : ALR g wb ab es := hAb.r (fun _ h => h)
  refine j_ast3 o dX1_isBucketSound_19 rfl rfl (hN 3 (Nat.le_of_ble_eq_true rfl)) (q := 20) rfl ?_
  refine j_iconst o (nI 0) dX1_isBucketSound_20 (by decide) (q := 21) rfl ?_
  refine j_ist4 o dX1_isBucketSound_21 rfl (hN 4 (Nat.le_of_ble_eq_true rfl)) (q := 23) rfl ?_
  have loop : ∀ (d k : Nat) (y5 y6 : Option Value), k + d = es.length → J g Y [wb] (uBall (fC (dF D)) es.length (bAt (fB (dF D)) b).2.1.length) 23 [some (.ref x), some (.int (nI b)), some (.ref qb), some (.ref ab), some (.int (nI k)), y5, y6] [] := by
    intro d
    induction d with
    | zero =>
      intro k y5 y6 hk
      refine j_ild o dX1_isBucketSound_23 rfl (q := 25) rfl ?_
      refine j_ald_n o dX1_isBucketSound_25 rfl rfl (q := 26) rfl ?_
      refine j_callV0 o (ctJ2_size hG _ (jwl 0 rfl hz6)) dX1_isBucketSound_26 q398 wdJ2_size mdJ2_size (jwm 0 rfl hz6) (by rfl) (by rfl) rfl (Nat.le_of_ble_eq_true rfl) (Nat.le_of_ble_eq_true rfl) (by omega) (Nat.le_of_ble_eq_true rfl) (q := 29) rfl (fun v wd hpost => ?_)
      obtain ⟨rfl, rfl⟩ := hpost
      dsimp only [List.cons_append, List.nil_append, Option.toList]
      refine j_icgeT o 131 dX1_isBucketSound_29 (by decide) (nI_le (by omega) (by omega)) ?_
      refine j_ald_n o dX1_isBucketSound_131 rfl rfl (q := 132) rfl ?_
      refine j_ald_n o dX1_isBucketSound_132 rfl rfl (q := 133) rfl ?_
      refine j_callV0 o (ctX1_isChainSound hG _ (q := 0) (n := dN D) (F := fK5 (dF D)) (jmr a1) (jmr r1) (hbR.mono (fun _ => jmr)) (by rw [hER1]; exact k2x) (by rw [hER1]; exact k3) (hfi.m16 hb) ⟨hfi.1, hfi.2.1⟩) dX1_isBucketSound_133 q653 wdX1_isChainSound mdX1_isChainSound (jb a1) (by rfl) (by rfl) rfl (Nat.le_of_ble_eq_true rfl) (Nat.le_of_ble_eq_true rfl) (by omega) (Nat.le_of_ble_eq_true rfl) (q := 136) rfl (fun v wd hpost => ?_)
      obtain ⟨rfl, rfl⟩ := hpost
      dsimp only [List.cons_append, List.nil_append, Option.toList]
      exact j_ret o r dX1_isBucketSound_136 rfl [] _ rfl (⟨rfl, rfl⟩) (by omega)
    | succ d ih =>
      intro k y5 y6 hk
      obtain ⟨e9, he9⟩ := get_ex (xs := es) (i := k) (by omega)
      obtain ⟨r9, hr9⟩ := get_ex (xs := (bAt (fB (dF D)) b).1) (i := k) (by omega)
      have hen := hER.2 k e9 r9 he9 hr9
      obtain ⟨t1, t2, t3, t4⟩ := hr r9 (List.mem_of_getElem? hr9)
      have hhl := hsh_lt (fCh (dF D)) (fSd (dF D)) r9.1
      refine j_ild o dX1_isBucketSound_23 rfl (q := 25) rfl ?_
      refine j_ald_n o dX1_isBucketSound_25 rfl rfl (q := 26) rfl ?_
      refine j_callV0 o (ctJ2_size hG _ (jwl 0 rfl hz6)) dX1_isBucketSound_26 q398 wdJ2_size mdJ2_size (jwm 0 rfl hz6) (by rfl) (by rfl) rfl (Nat.le_of_ble_eq_true rfl) (Nat.le_of_ble_eq_true rfl) (by omega) (Nat.le_of_ble_eq_true rfl) (q := 29) rfl (fun v wd hpost => ?_)
      obtain ⟨rfl, rfl⟩ := hpost
      dsimp only [List.cons_append, List.nil_append, Option.toList]
      refine j_icgeF o (t := 131) dX1_isBucketSound_29 (by decide) (q := 32) rfl (nI_ge (by omega) (by omega)) ?_
      refine j_ald_n o dX1_isBucketSound_32 rfl rfl (q := 33) rfl ?_
      refine j_gf o dX1_isBucketSound_33 (jb a1) kcX1 7 (Nat.le_of_ble_eq_true rfl) q360 rfl (q := 36) rfl ?_
      refine j_gf o dX1_isBucketSound_36 (jb r1) kcX2 8 (Nat.le_of_ble_eq_true rfl) q308 rfl (q := 39) rfl ?_
      refine j_ald_n o dX1_isBucketSound_39 rfl rfl (q := 40) rfl ?_
      refine j_ild o dX1_isBucketSound_40 rfl (q := 42) rfl ?_
      refine j_callV0 o (ctJ2_get hG _ (hAr.mono (fun _ h => jwl 0 rfl h)) he9) dX1_isBucketSound_42 q466 wdJ2_get mdJ2_get (jwm 0 rfl hz6) (by rfl) (by rfl) rfl (Nat.le_of_ble_eq_true rfl) (Nat.le_of_ble_eq_true rfl) (by omega) (Nat.le_of_ble_eq_true rfl) (q := 45) rfl (fun v wd hpost => ?_)
      obtain ⟨rfl, rfl⟩ := hpost
      dsimp only [List.cons_append, List.nil_append, Option.toList]
      refine j_castS (r := (RX11, TX11, 2)) o dX1_isBucketSound_45 q517 (jb hen) (ci := 11) rfl (q := 48) rfl ?_
      refine j_gf o dX1_isBucketSound_48 (jb hen) kcX11 0 (Nat.le_of_ble_eq_true rfl) q447 rfl (q := 51) rfl ?_
      refine j_callV0 o (ctX3_of hG _ (jmr a4) hI.1.2.1 hI.1.2.2.1 (by omega)) dX1_isBucketSound_51 q646 wdX3_of mdX3_of (jb a4) (by rfl) (by rfl) rfl (Nat.le_of_ble_eq_true rfl) (Nat.le_of_ble_eq_true rfl) (by omega) (Nat.le_of_ble_eq_true rfl) (q := 54) rfl (fun v wd hpost => ?_)
      obtain ⟨rfl, rfl⟩ := hpost
      dsimp only [List.cons_append, List.nil_append, Option.toList]
      refine j_ist5 o dX1_isBucketSound_54 rfl (hN 5 (Nat.le_of_ble_eq_true rfl)) (q := 56) rfl ?_
      refine j_ald_n o dX1_isBucketSound_56 rfl rfl (q := 57) rfl ?_
      refine j_gf o dX1_isBucketSound_57 (jb a1) kcX1 7 (Nat.le_of_ble_eq_true rfl) q360 rfl (q := 60) rfl ?_
      refine j_ild o dX1_isBucketSound_60 rfl (q := 62) rfl ?_
      refine j_callV0 o (ctX2_address hG _ (F := fK5 (dF D)) (jmr r1) hlv (by omega) (by omega)) dX1_isBucketSound_62 q647 wdX2_address mdX2_address (jb r1) (by rfl) (by rfl) rfl (Nat.le_of_ble_eq_true rfl) (Nat.le_of_ble_eq_true rfl) (by omega) (Nat.le_of_ble_eq_true rfl) (q := 65) rfl (fun v wd hpost => ?_)
      obtain ⟨rfl, rfl⟩ := hpost
      dsimp only [List.cons_append, List.nil_append, Option.toList]
      rw [← adr_ad f3, t3]
      refine j_ild_n o dX1_isBucketSound_65 rfl (q := 66) rfl ?_
      refine j_icneF o (t := 78) dX1_isBucketSound_66 (by decide) (q := 69) rfl rfl ?_
      refine j_ald_n o dX1_isBucketSound_69 rfl rfl (q := 70) rfl ?_
      refine j_ild o dX1_isBucketSound_70 rfl (q := 72) rfl ?_
      refine j_callV0 o (ctX4_lets hG _ (jmr b1) k4 (by omega)) dX1_isBucketSound_72 q648 wdX4_lets mdX4_lets (jb b1) (by rfl) (by rfl) rfl (Nat.le_of_ble_eq_true rfl) (Nat.le_of_ble_eq_true rfl) (by omega) (Nat.le_of_ble_eq_true rfl) (q := 75) rfl (fun v wd hpost => ?_)
      obtain ⟨rfl, rfl⟩ := hpost
      dsimp only [List.cons_append, List.nil_append, Option.toList]
      rw [if_pos t4]
      refine j_ifneT o 80 dX1_isBucketSound_75 (by decide) (by decide) ?_
      refine j_iconst o (nI 0) dX1_isBucketSound_80 (by decide) (q := 81) rfl ?_
      refine j_ist6 o dX1_isBucketSound_81 rfl (hN 6 (Nat.le_of_ble_eq_true rfl)) (q := 83) rfl ?_
      have inner : ∀ (d2 n : Nat), n + d2 = k → J g Y [wb] (uBall (fC (dF D)) es.length (bAt (fB (dF D)) b).2.1.length) 83 [some (.ref x), some (.int (nI b)), some (.ref qb), some (.ref ab), some (.int (nI k)), some (.int (nI (hsh (fCh (dF D)) (fSd (dF D)) r9.1))), some (.int (nI n))] [] := by
        intro d2
        induction d2 with
        | zero =>
          intro n hn
          refine j_ild o dX1_isBucketSound_83 rfl (q := 85) rfl ?_
          refine j_ild o dX1_isBucketSound_85 rfl (q := 87) rfl ?_
          refine j_icgeT o 125 dX1_isBucketSound_87 (by decide) (nI_le (by omega) (by omega)) ?_
          refine j_inc4 o (nI (k + 1)) dX1_isBucketSound_125 (by first | exact nI_1 _ | exact pk_m1 _ | rfl) rfl (q := 128) rfl ?_
          refine j_goto o 23 dX1_isBucketSound_128 (by decide) ?_
          exact ih (k + 1) _ _ (by omega)
        | succ d2 ih2 =>
          intro n hn
          obtain ⟨e8, he8⟩ := get_ex (xs := es) (i := n) (by omega)
          obtain ⟨r8, hr8⟩ := get_ex (xs := (bAt (fB (dF D)) b).1) (i := n) (by omega)
          have hen8 := hER.2 n e8 r8 he8 hr8
          have t8 := (hr r8 (List.mem_of_getElem? hr8)).1
          have hne : ¬ nI r8.1 = nI r9.1 := fun h => by
            have e1 : r8.1 = r9.1 := (nI_eq (by omega) (by omega)).mp h
            have h1 : ((bAt (fB (dF D)) b).1.map (·.1))[n]? = some r8.1 := by rw [List.getElem?_map, hr8]; rfl
            have h2 : ((bAt (fB (dF D)) b).1.map (·.1))[k]? = some r8.1 := by rw [List.getElem?_map, hr9, e1]; rfl
            have := nodup_at hnd h1 h2
            omega
          refine j_ild o dX1_isBucketSound_83 rfl (q := 85) rfl ?_
          refine j_ild o dX1_isBucketSound_85 rfl (q := 87) rfl ?_
          refine j_icgeF o (t := 125) dX1_isBucketSound_87 (by decide) (q := 90) rfl (nI_ge (by omega) (by omega)) ?_
          refine j_ald_n o dX1_isBucketSound_90 rfl rfl (q := 91) rfl ?_
          refine j_ild o dX1_isBucketSound_91 rfl (q := 93) rfl ?_
          refine j_callV0 o (ctJ2_get hG _ (hAr.mono (fun _ h => jwl 0 rfl h)) he8) dX1_isBucketSound_93 q466 wdJ2_get mdJ2_get (jwm 0 rfl hz6) (by rfl) (by rfl) rfl (Nat.le_of_ble_eq_true rfl) (Nat.le_of_ble_eq_true rfl) (by omega) (Nat.le_of_ble_eq_true rfl) (q := 96) rfl (fun v wd hpost => ?_)
          obtain ⟨rfl, rfl⟩ := hpost
          dsimp only [List.cons_append, List.nil_append, Option.toList]
          refine j_castS (r := (RX11, TX11, 2)) o dX1_isBucketSound_96 q517 (jb hen8) (ci := 11) rfl (q := 99) rfl ?_
          refine j_gf o dX1_isBucketSound_99 (jb hen8) kcX11 0 (Nat.le_of_ble_eq_true rfl) q447 rfl (q := 102) rfl ?_
          refine j_ald_n o dX1_isBucketSound_102 rfl rfl (q := 103) rfl ?_
          refine j_ild o dX1_isBucketSound_103 rfl (q := 105) rfl ?_
          refine j_callV0 o (ctJ2_get hG _ (hAr.mono (fun _ h => jwl 0 rfl h)) he9) dX1_isBucketSound_105 q466 wdJ2_get mdJ2_get (jwm 0 rfl hz6) (by rfl) (by rfl) rfl (Nat.le_of_ble_eq_true rfl) (Nat.le_of_ble_eq_true rfl) (by omega) (Nat.le_of_ble_eq_true rfl) (q := 108) rfl (fun v wd hpost => ?_)
          obtain ⟨rfl, rfl⟩ := hpost
          dsimp only [List.cons_append, List.nil_append, Option.toList]
          refine j_castS (r := (RX11, TX11, 2)) o dX1_isBucketSound_108 q517 (jb hen) (ci := 11) rfl (q := 111) rfl ?_
          refine j_gf o dX1_isBucketSound_111 (jb hen) kcX11 0 (Nat.le_of_ble_eq_true rfl) q447 rfl (q := 114) rfl ?_
          refine j_icneT o 119 dX1_isBucketSound_114 (by decide) hne ?_
          refine j_inc6 o (nI (n + 1)) dX1_isBucketSound_119 (by first | exact nI_1 _ | exact pk_m1 _ | rfl) rfl (q := 122) rfl ?_
          refine j_goto o 83 dX1_isBucketSound_122 (by decide) ?_
          exact ih2 (n + 1) (by omega)
      exact inner k 0 (by omega)
  refine j_units (u2 := uBall (fC (dF D)) es.length (bAt (fB (dF D)) b).2.1.length) (by omega) ?_
  exact loop es.length 0 _ _ (by omega)
