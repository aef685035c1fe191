/-! THE DESK, eleventh: get, find -/
set_option maxRecDepth 100000
theorem ctX1_get {l : Launch} {g : jG} (hG : GS l g) (bg : va_W) {x k : Nat} {D : Dk} (hD : rD g bg x D) (hI : InvD D) (hk : k ≤ 9999) : KX1_get l g 15 0 [.ref x, .int (nI k)] bg [] (fun y wd => y = some (.int (gA (fGt (dF D) k))) ∧ wd = []) := by
  obtain ⟨f, kk, lg, cl, io, mk, hf, hk9, ess, essk, xs, c0, c1, c2, mv, a1, a2, a3, a4, -⟩ := hD
  obtain ⟨bl, tk, qs, z1, -⟩ := id a2
  refine Ctr.of [some (.ref x), some (.int (nI k)), none] hG (by decide +kernel) rfl (Nat.le_of_ble_eq_true rfl) (fun Y hl hN0 o r hIni => ?_)
  subst hl
  have hN : ∀ i, i < 3 → i < yN Y := fun i h => by rw [hN0]; exact h
  refine j_ild_n o dX1_get_0 rfl (q := 1) rfl ?_
  refine j_callS0 o (ctX1_mustBeKey hG _ hk) dX1_get_1 q1153 wdX1_mustBeKey mdX1_mustBeKey rfl (Nat.le_of_ble_eq_true rfl) (Nat.le_of_ble_eq_true rfl) (by omega) (Nat.le_of_ble_eq_true rfl) (q := 4) rfl (fun v wd hpost => ?_)
  obtain ⟨rfl, rfl⟩ := hpost
  dsimp only [List.cons_append, List.nil_append, Option.toList]
  refine j_ald_n o dX1_get_4 rfl rfl (q := 5) rfl ?_
  refine j_gf o dX1_get_5 (jb a1) kcX1 7 (Nat.le_of_ble_eq_true rfl) q360 rfl (q := 8) rfl ?_
  refine j_ild_n o dX1_get_8 rfl (q := 9) rfl ?_
  refine j_callV0 o (ctX2_get hG _ (a2.mono (fun _ => jmr)) (a3.mono (fun _ => jmr)) (jmr a4) hI.1.1 hI.1.2.1 hI.1.2.2.1 (by omega)) dX1_get_9 q1034 wdX2_get mdX2_get (jb z1) (by rfl) (by rfl) rfl (Nat.le_of_ble_eq_true rfl) (Nat.le_of_ble_eq_true rfl) (by omega) (Nat.le_of_ble_eq_true rfl) (q := 12) rfl (fun v wd hpost => ?_)
  obtain ⟨hres, rfl⟩ := hpost
  dsimp only [List.cons_append, List.nil_append, Option.toList]
  rcases getRes hI.1.1 a3 hres with ⟨e, r9, rfl, he, hg⟩ | ⟨rfl, hg⟩
  · refine j_ast2 o dX1_get_12 rfl rfl (hN 2 (Nat.le_of_ble_eq_true rfl)) (q := 13) rfl ?_
    refine j_ald_n o dX1_get_13 rfl rfl (q := 14) rfl ?_
    refine j_ifnn o 21 dX1_get_14 (by decide) ?_
    refine j_ald_n o dX1_get_21 rfl rfl (q := 22) rfl ?_
    refine j_gf o dX1_get_22 (jb he) kcX11 1 (Nat.le_of_ble_eq_true rfl) q451 rfl (q := 25) rfl ?_
    exact j_ret o r dX1_get_25 rfl [] _ rfl (⟨by rw [show fGt (dF D) k = some r9.2 from hg]; rfl, rfl⟩) (by omega)
  · refine j_ast2 o dX1_get_12 rfl rfl (hN 2 (Nat.le_of_ble_eq_true rfl)) (q := 13) rfl ?_
    refine j_ald_n o dX1_get_13 rfl rfl (q := 14) rfl ?_
    refine j_ifnnN o dX1_get_14 (q := 17) rfl ?_
    refine j_iconst o (-1) dX1_get_17 (by decide) (q := 18) rfl ?_
    refine j_goto o 25 dX1_get_18 (by decide) ?_
    exact j_ret o r dX1_get_25 rfl [] _ rfl (⟨by rw [show fGt (dF D) k = none from hg]; rfl, rfl⟩) (by omega)
theorem ctxX1_get {l : Launch} {g : jG} (hG : GS l g) (bg : va_W) {x : Nat} {p : Int32} (h : ¬ inI 9999 p) : EX1_get l g 9 1 [.ref x, .int p] bg xIAE := by
  refine CtrX.of [some (.ref x), some (.int p), none] hG (by decide +kernel) rfl (Nat.le_of_ble_eq_true rfl) (fun Y hl hN0 o r => ?_)
  subst hl
  have hN : ∀ i, i < 3 → i < yN Y := fun i h => by rw [hN0]; exact h
  refine j_ild_n o dX1_get_0 rfl (q := 1) rfl ?_
  exact j_callXS o (ctxX1_mustBeKey hG _ h) dX1_get_1 q1153 wdX1_mustBeKey mdX1_mustBeKey rfl (Nat.le_of_ble_eq_true rfl) (Nat.le_of_ble_eq_true rfl) (by omega) (Nat.le_of_ble_eq_true rfl) (j_outX o r (by omega))
abbrev nRd (n : N7) (a b : Nat) : N7 := (n.1, n.2.1 + a, n.2.2.1 + b, n.2.2.2)
abbrev fBk (F : Fl) (k : Nat) : Bkt := bAt (fB F) (bOf (fCh F) (fSd F) (fB F) k)
abbrev fHs (F : Fl) (k : Nat) : Nat := hsh (fCh F) (fSd F) k
def dFindN (D : Dk) (k : Nat) : N7 := if (fBk (dF D) k).2.2 &&& mrk (fHs (dF D) k) = mrk (fHs (dF D) k) then (if (fGt (dF D) k).isSome then nRd (dN D) (plc (fBk (dF D) k).1 k / fC (dF D) + 1) 0 else nRd (dN D) (fBk (dF D) k).2.1.length 1) else dN D
def dFind (D : Dk) (k : Nat) : Dk := (dFindN D k, D.2)
theorem fGt_some {F : Fl} {k i : Nat} {r : Row} (h : jFst ((fBk F k).1.map (·.1)) k i) (hr : (fBk F k).1[i]? = some r) : fGt F k = some r.2 ∧ plc (fBk F k).1 k = i := by
  obtain ⟨h1, h2, -⟩ := jFst_find h hr
  exact ⟨by show ((fBk F k).1.find? _).map _ = _; rw [h1]; rfl, h2⟩
theorem fGt_none {F : Fl} {k : Nat} (h : k ∉ (fBk F k).1.map (·.1)) : fGt F k = none := by
  show ((fBk F k).1.find? _).map _ = _
  rw [no_find h]
  rfl
theorem ctX1_find {l : Launch} {g : jG} (hG : GS l g) (bg : va_W) {x k : Nat} {D : Dk} {w : va_W} (hD : isD g x D w) (hI : InvD D) (hk : k ≤ 9999) : KX1_find l g 15 0 [.ref x, .int (nI k)] bg [w] (fun y wd => y = some (.int (gA (fGt (dF D) k))) ∧ ∃ w2, wd = [w2] ∧ isD g x (dFind D k) w2) := by
  obtain ⟨f2, k2, lg2, cl2, io2, mk2, hf2, hk2, ess, essk2, xs2, d0, d1, d2, mv2, wl, wa, wf, we, wk, wke, wp, hp, hF, hE, h1x, hK, hG2, h2x, hA, hl9, ha, hm⟩ := hD
  obtain ⟨bl, tk, qs, r1, r2, r3, r4, r5, r6⟩ := isSt.r hF (S := wf) (fun _ h => h)
  obtain ⟨hfi, had⟩ := hI.1.1
  have f3 := hfi.2.2.1
  have f4 := hfi.2.2.2.1
  have f5 := hfi.2.2.2.2.1
  have hi : bOf (fCh (dF D)) (fSd (dF D)) (fB (dF D)) k < (fB (dF D)).length := adr_lt (by omega)
  obtain ⟨qb, hqb⟩ := get_ex (xs := qs) (i := bOf (fCh (dF D)) (fSd (dF D)) (fB (dF D)) k) (by omega)
  obtain ⟨es, hes⟩ := get_ex (xs := ess) (i := bOf (fCh (dF D)) (fSd (dF D)) (fB (dF D)) k) (by omega)
  have hB := bAt_ex hi
  obtain ⟨chn, ps, b1, b2, b3⟩ := r6 _ _ _ _ hqb hB hes
  have hER := hE.2 _ es _ hes hB
  obtain ⟨k1, k2x, k3, k4, k5⟩ := hfi.2.2.2.2.2.1.at hi
  have hrw := rws_at hi
  have hks : ∀ r ∈ (fBk (dF D) k).1, r.1 < 2 ^ 31 := fun r hr => by
    have := ((had.own hi).1 r hr).1
    omega
  have hlv := lvl_lt (n := (fB (dF D)).length) (by omega)
  have hpl := ptr_le (n := (fB (dF D)).length)
  have hER1 := hER.1
  have hc0 : 0 < fC (dF D) := by have := hfi.1; omega
  have hlen : ps.length = (fBk (dF D) k).2.1.length := b3.1
  have k2x : (fBk (dF D) k).1.length ≤ (fBk (dF D) k).2.1.length * fC (dF D) := k2x
  have hm16 : (fBk (dF D) k).2.1.length < 2 ^ 10 := hfi.m16 hi
  have hrw : (fBk (dF D) k).1.length ≤ rws (fB (dF D)) := hrw
  have hER1 : es.length = (fBk (dF D) k).1.length := hER1
  obtain ⟨m5, b5, hz5, -⟩ := id b2
  have hhl := hsh_lt (fCh (dF D)) (fSd (dF D)) k
  refine Ctr.of [some (.ref x), some (.int (nI k)), none, none, none, none] hG (by decide +kernel) rfl (Nat.le_of_ble_eq_true rfl) (fun Y hl hN0 o r hIni => ?_)
  subst hl
  have hN : ∀ i, i < 6 → i < yN Y := fun i h => by rw [hN0]; exact h
  refine j_spP _ (hp) ?_
  dsimp only [List.cons_append, List.nil_append]
  refine j_ild_n o dX1_find_0 rfl (q := 1) rfl ?_
  refine j_callS0 o (ctX1_mustBeKey hG _ hk) dX1_find_1 q1153 wdX1_mustBeKey mdX1_mustBeKey rfl (Nat.le_of_ble_eq_true rfl) (Nat.le_of_ble_eq_true rfl) (by omega) (Nat.le_of_ble_eq_true rfl) (q := 4) rfl (fun v wd hpost => ?_)
  obtain ⟨rfl, rfl⟩ := hpost
  dsimp only [List.cons_append, List.nil_append, Option.toList]
  refine j_ald_n o dX1_find_4 rfl rfl (q := 5) rfl ?_
  refine j_gf o dX1_find_5 (jw 0 0 rfl rfl) kcX1 7 (Nat.le_of_ble_eq_true rfl) q360 rfl (q := 8) rfl ?_
  refine j_ild_n o dX1_find_8 rfl (q := 9) rfl ?_
  refine j_callV0 o (ctX2_bucketOf hG _ (F := fK5 (dF D)) (jwl 7 rfl r1) (jwl 11 rfl h1x) (r3.mono (fun _ h => jwl 7 rfl h)) hlv (by omega) hI.1.2.1 hI.1.2.2.1 (by omega) (by rw [← adr_ad f3]; exact hqb) (jwl 7 rfl b1)) dX1_find_9 q1196 wdX2_bucketOf mdX2_bucketOf (jwm 7 rfl r1) (by rfl) (by rfl) rfl (Nat.le_of_ble_eq_true rfl) (Nat.le_of_ble_eq_true rfl) (by omega) (Nat.le_of_ble_eq_true rfl) (q := 12) rfl (fun v wd hpost => ?_)
  obtain ⟨rfl, rfl⟩ := hpost
  dsimp only [List.cons_append, List.nil_append, Option.toList]
  refine j_ast2 o dX1_find_12 rfl rfl (hN 2 (Nat.le_of_ble_eq_true rfl)) (q := 13) rfl ?_
  refine j_ald_n o dX1_find_13 rfl rfl (q := 14) rfl ?_
  refine j_ald_n o dX1_find_14 rfl rfl (q := 15) rfl ?_
  refine j_gf o dX1_find_15 (jw 0 0 rfl rfl) kcX1 7 (Nat.le_of_ble_eq_true rfl) q360 rfl (q := 18) rfl ?_
  refine j_gf o dX1_find_18 (jwm 7 rfl r1) kcX2 8 (Nat.le_of_ble_eq_true rfl) q308 rfl (q := 21) rfl ?_
  refine j_ild_n o dX1_find_21 rfl (q := 22) rfl ?_
  refine j_callV0 o (ctX3_of hG _ (jwl 11 rfl h1x) hI.1.2.1 hI.1.2.2.1 (by omega)) dX1_find_22 q646 wdX3_of mdX3_of (jwm 11 rfl h1x) (by rfl) (by rfl) rfl (Nat.le_of_ble_eq_true rfl) (Nat.le_of_ble_eq_true rfl) (by omega) (Nat.le_of_ble_eq_true rfl) (q := 25) rfl (fun v wd hpost => ?_)
  obtain ⟨rfl, rfl⟩ := hpost
  dsimp only [List.cons_append, List.nil_append, Option.toList]
  refine j_callV0 o (ctX4_lets hG _ (jwl 7 rfl b1) k4 (by omega)) dX1_find_25 q648 wdX4_lets mdX4_lets (jwm 7 rfl b1) (by rfl) (by rfl) rfl (Nat.le_of_ble_eq_true rfl) (Nat.le_of_ble_eq_true rfl) (by omega) (Nat.le_of_ble_eq_true rfl) (q := 28) rfl (fun v wd hpost => ?_)
  obtain ⟨rfl, rfl⟩ := hpost
  dsimp only [List.cons_append, List.nil_append, Option.toList]
  by_cases hlet : (fBk (dF D) k).2.2 &&& mrk (fHs (dF D) k) = mrk (fHs (dF D) k)
  · rw [show (if (bAt (fB (dF D)) (bOf (fCh (dF D)) (fSd (dF D)) (fB (dF D)) k)).2.2 &&& mrk (hsh (fCh (dF D)) (fSd (dF D)) k) = mrk (hsh (fCh (dF D)) (fSd (dF D)) k) then 1 else 0 : Nat) = 1 from if_pos hlet]
    refine j_ifneT o 33 dX1_find_28 (by decide) (by decide) ?_
    refine j_iconst o (nI 0) dX1_find_33 (by decide) (q := 34) rfl ?_
    refine j_ist3 o dX1_find_34 rfl (hN 3 (Nat.le_of_ble_eq_true rfl)) (q := 35) rfl ?_
    have loop : ∀ (d j : Nat) (y4 y5 : Option Value), j + d = ps.length → (∀ i, i < j * fC (dF D) → ((fBk (dF D) k).1.map (·.1))[i]? ≠ some k) → J g Y ([(x, dkO (nRd (dN D) j 0) f2 k2 lg2 cl2 io2 mk2)] :: [wl, wa, [(cl2, eQ g 4 3 (fun i => [d0, d1, d2][i]?))], [(d0, clO (dI D 0)), (d1, clO (dI D 1)), (d2, clO (dI D 2))], [(io2, eA g 1 3 (opnF (dM D)))], [(mk2, eA g 0 3 mv2)], wf, we, wk, wke, wp]) 0 35 [some (.ref x), some (.int (nI k)), some (.ref qb), some (.int (nI j)), y4, y5] [] := by
      intro d
      induction d with
      | zero =>
        intro j y4 y5 hj hno
        have hmis : k ∉ (fBk (dF D) k).1.map (·.1) := fun hm => by
          obtain ⟨i, hi⟩ := List.getElem?_of_mem hm
          refine hno i ?_ hi
          have := get_lt hi
          rw [List.length_map] at this
          rw [show j = (fBk (dF D) k).2.1.length by omega]
          omega
        have hg := fGt_none hmis
        refine j_ild_n o dX1_find_35 rfl (q := 36) rfl ?_
        refine j_ald_n o dX1_find_36 rfl rfl (q := 37) rfl ?_
        refine j_gf o dX1_find_37 (jwm 7 rfl b1) kcX4 0 (Nat.le_of_ble_eq_true rfl) q184 rfl (q := 40) rfl ?_
        refine j_callV0 o (ctJ2_size hG _ (jwl 7 rfl hz5)) dX1_find_40 q398 wdJ2_size mdJ2_size (jwm 7 rfl hz5) (by rfl) (by rfl) rfl (Nat.le_of_ble_eq_true rfl) (Nat.le_of_ble_eq_true rfl) (by omega) (Nat.le_of_ble_eq_true rfl) (q := 43) rfl (fun v wd hpost => ?_)
        obtain ⟨rfl, rfl⟩ := hpost
        dsimp only [List.cons_append, List.nil_append, Option.toList]
        refine j_icgeT o 106 dX1_find_43 (by decide) (nI_le (by omega) (by omega)) ?_
        refine j_ald_n o dX1_find_106 rfl rfl (q := 107) rfl ?_
        refine j_dup o dX1_find_107 rfl (q := 108) rfl ?_
        refine j_gf o dX1_find_108 (jw 0 0 rfl rfl) kcX1 2 (Nat.le_of_ble_eq_true rfl) q355 rfl (q := 111) rfl ?_
        refine j_iconst o (nI 1) dX1_find_111 (by decide) (q := 112) rfl ?_
        refine j_iadd o dX1_find_112 (q := 113) rfl ?_
        refine j_topi o (nI ((dN D).2.2.1 + 0 + 1)) (nI_1 _) ?_
        refine j_pf o dX1_find_113 0 0 rfl rfl kcX1 2 (Nat.le_of_ble_eq_true rfl) q355 rfl rfl rfl (Nat.le_of_ble_eq_true rfl) (q := 116) rfl ?_
        dsimp only [List.set]
        refine j_iconst o (-1) dX1_find_116 (by decide) (q := 117) rfl ?_
        refine j_mgN [_, _, _, _, _, _, _, _, _, _, _, _] (fun w4 hw4 => ?_)
        first | dsimp only [List.cons_append, List.nil_append] | skip
        have en : dFindN D k = nRd (dN D) j 1 := by
          unfold dFindN
          rw [if_pos hlet, hg]
          show nRd (dN D) (fBk (dF D) k).2.1.length 1 = _
          rw [show (fBk (dF D) k).2.1.length = j by omega]
        exact j_ret o r dX1_find_117 rfl [_] _ rfl (⟨by rw [hg]; rfl, w4, rfl, f2, k2, lg2, cl2, io2, mk2, hf2, hk2, ess, essk2, xs2, d0, d1, d2, mv2, wl, wa, wf, we, wk, wke, wp, (by show w4.Perm (jflat ([(x, dkO (dFindN D k) f2 k2 lg2 cl2 io2 mk2)] :: _)); rw [en]; exact hw4), hF, hE, h1x, hK, hG2, h2x, hA, hl9, ha, hm⟩) (by omega)
      | succ d ih =>
        intro j y4 y5 hj hno
        obtain ⟨p, hpx⟩ := get_ex (xs := ps) (i := j) (by omega)
        obtain ⟨n, rl, hn, hpc, hAp⟩ := b3.2 j p hpx
        obtain ⟨m6, b6, hz6, -⟩ := id hAp
        refine j_ild_n o dX1_find_35 rfl (q := 36) rfl ?_
        refine j_ald_n o dX1_find_36 rfl rfl (q := 37) rfl ?_
        refine j_gf o dX1_find_37 (jwm 7 rfl b1) kcX4 0 (Nat.le_of_ble_eq_true rfl) q184 rfl (q := 40) rfl ?_
        refine j_callV0 o (ctJ2_size hG _ (jwl 7 rfl hz5)) dX1_find_40 q398 wdJ2_size mdJ2_size (jwm 7 rfl hz5) (by rfl) (by rfl) rfl (Nat.le_of_ble_eq_true rfl) (Nat.le_of_ble_eq_true rfl) (by omega) (Nat.le_of_ble_eq_true rfl) (q := 43) rfl (fun v wd hpost => ?_)
        obtain ⟨rfl, rfl⟩ := hpost
        dsimp only [List.cons_append, List.nil_append, Option.toList]
        refine j_icgeF o (t := 106) dX1_find_43 (by decide) (q := 46) rfl (nI_ge (by omega) (by omega)) ?_
        refine j_ald_n o dX1_find_46 rfl rfl (q := 47) rfl ?_
        refine j_gf o dX1_find_47 (jwm 7 rfl b1) kcX4 0 (Nat.le_of_ble_eq_true rfl) q184 rfl (q := 50) rfl ?_
        refine j_ild_n o dX1_find_50 rfl (q := 51) rfl ?_
        refine j_callV0 o (ctJ2_get hG _ (b2.mono (fun _ h => jwl 7 rfl h)) hpx) dX1_find_51 q466 wdJ2_get mdJ2_get (jwm 7 rfl hz5) (by rfl) (by rfl) rfl (Nat.le_of_ble_eq_true rfl) (Nat.le_of_ble_eq_true rfl) (by omega) (Nat.le_of_ble_eq_true rfl) (q := 54) rfl (fun v wd hpost => ?_)
        obtain ⟨rfl, rfl⟩ := hpost
        dsimp only [List.cons_append, List.nil_append, Option.toList]
        refine j_castS (r := (RX5, TX5, 2)) o dX1_find_54 q657 (jwm 7 rfl hpc) (ci := 5) rfl (q := 57) rfl ?_
        refine j_ast4 o dX1_find_57 rfl rfl (hN 4 (Nat.le_of_ble_eq_true rfl)) (q := 59) rfl ?_
        refine j_ald_n o dX1_find_59 rfl rfl (q := 60) rfl ?_
        refine j_dup o dX1_find_60 rfl (q := 61) rfl ?_
        refine j_gf o dX1_find_61 (jw 0 0 rfl rfl) kcX1 1 (Nat.le_of_ble_eq_true rfl) q354 rfl (q := 64) rfl ?_
        refine j_iconst o (nI 1) dX1_find_64 (by decide) (q := 65) rfl ?_
        refine j_iadd o dX1_find_65 (q := 66) rfl ?_
        refine j_topi o (nI ((dN D).2.1 + j + 1)) (nI_1 _) ?_
        refine j_pf o dX1_find_66 0 0 rfl rfl kcX1 1 (Nat.le_of_ble_eq_true rfl) q354 rfl rfl rfl (Nat.le_of_ble_eq_true rfl) (q := 69) rfl ?_
        dsimp only [List.set]
        refine j_ald o dX1_find_69 rfl rfl (q := 71) rfl ?_
        refine j_ild_n o dX1_find_71 rfl (q := 72) rfl ?_
        refine j_callS0 o (ctX1_placeIn hG _ (jwl 7 rfl hpc) (hAp.mono (fun _ h => jwl 7 rfl h)) ((hER.pg (fC (dF D)) j).mono (fun _ h => jwl 8 rfl h)) (show k < 2 ^ 31 by omega) (fun r hr => hks r (List.mem_of_mem_drop (List.mem_of_mem_take hr)))) dX1_find_72 q1197 wdX1_placeIn mdX1_placeIn rfl (Nat.le_of_ble_eq_true rfl) (Nat.le_of_ble_eq_true rfl) (by omega) (Nat.le_of_ble_eq_true rfl) (q := 75) rfl (fun v wd hpost => ?_)
        obtain ⟨z, rfl, hz, rfl⟩ := hpost
        dsimp only [List.cons_append, List.nil_append, Option.toList]
        rw [map_pg] at hz
        rcases hz with ⟨i, hi9, hi1, hi2, rfl⟩ | ⟨hi9, rfl⟩
        · rw [pgE_len, List.length_map] at hi9
          have hic : i < fC (dF D) := by omega
          rw [pgE_get hic] at hi1
          have hdiv : (j * fC (dF D) + i) / fC (dF D) = j := by rw [Nat.mul_comm, Nat.mul_add_div hc0, Nat.div_eq_of_lt hic, Nat.add_zero]
          have hFs : jFst ((fBk (dF D) k).1.map (·.1)) k (j * fC (dF D) + i) := ⟨hi1, fun j2 hj2 => by
            rcases Nat.lt_or_ge j2 (j * fC (dF D)) with h9 | h9
            · exact hno j2 h9
            · have h8 := hi2 (j2 - j * fC (dF D)) (by omega)
              rw [pgE_get (by omega), show j * fC (dF D) + (j2 - j * fC (dF D)) = j2 by omega] at h8
              exact h8⟩
          have hl8 := get_lt hi1
          rw [List.length_map] at hl8
          obtain ⟨r9, hr9⟩ := get_ex (xs := (fBk (dF D) k).1) (i := j * fC (dF D) + i) hl8
          obtain ⟨e9, he9⟩ := get_ex (xs := es) (i := j * fC (dF D) + i) (by omega)
          have hen := hER.2 _ e9 r9 he9 hr9
          obtain ⟨hg1, hg2⟩ := fGt_some hFs hr9
          have he8 : (pgE (fC (dF D)) es j)[i]? = some e9 := by rw [pgE_get hic]; exact he9
          refine j_ist5 o dX1_find_75 rfl (hN 5 (Nat.le_of_ble_eq_true rfl)) (q := 77) rfl ?_
          refine j_ild o dX1_find_77 rfl (q := 79) rfl ?_
          refine j_iconst o (-1) dX1_find_79 (by decide) (q := 80) rfl ?_
          refine j_iceqF o (t := 100) dX1_find_80 (by decide) (q := 83) rfl (fun h => nI_pos (n := i) (by omega) (by rw [h]; decide)) ?_
          refine j_ald o dX1_find_83 rfl rfl (q := 85) rfl ?_
          refine j_gf o dX1_find_85 (jwm 7 rfl hpc) kcX5 1 (Nat.le_of_ble_eq_true rfl) q211 rfl (q := 88) rfl ?_
          refine j_ild o dX1_find_88 rfl (q := 90) rfl ?_
          refine j_callV0 o (ctJ2_get hG _ (hAp.mono (fun _ h => jwl 7 rfl h)) he8) dX1_find_90 q466 wdJ2_get mdJ2_get (jwm 7 rfl hz6) (by rfl) (by rfl) rfl (Nat.le_of_ble_eq_true rfl) (Nat.le_of_ble_eq_true rfl) (by omega) (Nat.le_of_ble_eq_true rfl) (q := 93) rfl (fun v wd hpost => ?_)
          obtain ⟨rfl, rfl⟩ := hpost
          dsimp only [List.cons_append, List.nil_append, Option.toList]
          refine j_castS (r := (RX11, TX11, 2)) o dX1_find_93 q517 (jwm 8 rfl hen) (ci := 11) rfl (q := 96) rfl ?_
          refine j_gf o dX1_find_96 (jwm 8 rfl hen) kcX11 1 (Nat.le_of_ble_eq_true rfl) q451 rfl (q := 99) rfl ?_
          refine j_mgN [_, _, _, _, _, _, _, _, _, _, _, _] (fun w4 hw4 => ?_)
          first | dsimp only [List.cons_append, List.nil_append] | skip
          have en : dFindN D k = nRd (dN D) (j + 1) 0 := by
            unfold dFindN
            rw [if_pos hlet, hg1, hg2, hdiv]
            rfl
          exact j_ret o r dX1_find_99 rfl [_] _ rfl (⟨by rw [hg1]; rfl, w4, rfl, f2, k2, lg2, cl2, io2, mk2, hf2, hk2, ess, essk2, xs2, d0, d1, d2, mv2, wl, wa, wf, we, wk, wke, wp, (by show w4.Perm (jflat ([(x, dkO (dFindN D k) f2 k2 lg2 cl2 io2 mk2)] :: _)); rw [en]; exact hw4), hF, hE, h1x, hK, hG2, h2x, hA, hl9, ha, hm⟩) (by omega)
        · refine j_ist5 o dX1_find_75 rfl (hN 5 (Nat.le_of_ble_eq_true rfl)) (q := 77) rfl ?_
          refine j_ild o dX1_find_77 rfl (q := 79) rfl ?_
          refine j_iconst o (-1) dX1_find_79 (by decide) (q := 80) rfl ?_
          refine j_iceqT o 100 dX1_find_80 (by decide) rfl ?_
          refine j_inc3 o (nI (j + 1)) dX1_find_100 (by first | exact nI_1 _ | exact pk_m1 _ | rfl) rfl (q := 103) rfl ?_
          refine j_goto o 35 dX1_find_103 (by decide) ?_
          refine ih (j + 1) _ _ (by omega) (fun j2 hj2 => ?_)
          rcases Nat.lt_or_ge j2 (j * fC (dF D)) with h9 | h9
          · exact hno j2 h9
          · intro e
            refine hi9 (List.mem_of_getElem? (i := j2 - j * fC (dF D)) ?_)
            rw [Nat.succ_mul] at hj2
            rw [pgE_get (by omega), show j * fC (dF D) + (j2 - j * fC (dF D)) = j2 by omega]
            exact e
    exact loop ps.length 0 _ _ (by omega) (fun j hj => by omega)
  · rw [show (if (bAt (fB (dF D)) (bOf (fCh (dF D)) (fSd (dF D)) (fB (dF D)) k)).2.2 &&& mrk (hsh (fCh (dF D)) (fSd (dF D)) k) = mrk (hsh (fCh (dF D)) (fSd (dF D)) k) then 1 else 0 : Nat) = 0 from if_neg hlet]
    refine j_ifneF o (t := 33) dX1_find_28 (by decide) (q := 31) rfl (by decide) ?_
    refine j_iconst o (-1) dX1_find_31 (by decide) (q := 32) rfl ?_
    refine j_mgN [_, _, _, _, _, _, _, _, _, _, _, _] (fun w4 hw4 => ?_)
    first | dsimp only [List.cons_append, List.nil_append] | skip
    have hmis : k ∉ (fBk (dF D) k).1.map (·.1) := fun hm => by
      obtain ⟨r, hr, hrk⟩ := List.mem_map.mp hm
      have h9 := (had _ _ hB).1 r hr
      rw [show r.1 = k from hrk] at h9
      exact hlet h9.2.2.2
    have en : dFindN D k = dN D := by
      unfold dFindN
      rw [if_neg hlet]
    exact j_ret o r dX1_find_32 rfl [_] _ rfl (⟨by rw [fGt_none hmis]; rfl, w4, rfl, f2, k2, lg2, cl2, io2, mk2, hf2, hk2, ess, essk2, xs2, d0, d1, d2, mv2, wl, wa, wf, we, wk, wke, wp, (by show w4.Perm (jflat ([(x, dkO (dFindN D k) f2 k2 lg2 cl2 io2 mk2)] :: _)); rw [en]; exact hw4), hF, hE, h1x, hK, hG2, h2x, hA, hl9, ha, hm⟩) (by omega)
theorem ctxX1_find {l : Launch} {g : jG} (hG : GS l g) (bg : va_W) {x : Nat} {p : Int32} (h : ¬ inI 9999 p) : EX1_find l g 9 1 [.ref x, .int p] bg xIAE := by
  refine CtrX.of [some (.ref x), some (.int p), none, none, none, none] hG (by decide +kernel) rfl (Nat.le_of_ble_eq_true rfl) (fun Y hl hN0 o r => ?_)
  subst hl
  have hN : ∀ i, i < 6 → i < yN Y := fun i h => by rw [hN0]; exact h
  refine j_ild_n o dX1_find_0 rfl (q := 1) rfl ?_
  exact j_callXS o (ctxX1_mustBeKey hG _ h) dX1_find_1 q1153 wdX1_mustBeKey mdX1_mustBeKey rfl (Nat.le_of_ble_eq_true rfl) (Nat.le_of_ble_eq_true rfl) (by omega) (Nat.le_of_ble_eq_true rfl) (j_outX o r (by omega))
