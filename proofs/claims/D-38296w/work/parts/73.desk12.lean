/-! THE DESK, twelfth: cursors, marks, clients -/
set_option maxRecDepth 100000
def updf {α : Type} (f : Nat → α) (i : Nat) (a : α) (j : Nat) : α := if j = i then a else f j
def dOpen (D : Dk) (i : Nat) : Dk := (dN D, dF D, dK D, dA D, dI D, updf (dM D) i (some none))
/-- the next key in order behind a mark, or none -/
def isNx (F : Fl) (m o : Option Nat) : Prop := (o = none ∧ ∀ r ∈ alR (fB F), ¬ beh (fCh F) (fSd F) m r.1) ∨ ∃ r ∈ alR (fB F), o = some r.1 ∧ beh (fCh F) (fSd F) m r.1 ∧ ∀ r2 ∈ alR (fB F), beh (fCh F) (fSd F) m r2.1 → ¬ ahd (fCh F) (fSd F) r2.1 r.1
theorem ahd_tot {ch sd a b : Nat} (h1 : ¬ ahd ch sd a b) (h2 : ¬ ahd ch sd b a) : a = b := by
  unfold ahd at *
  omega
theorem isNx.uniq {F : Fl} {m o1 o2 : Option Nat} (h1 : isNx F m o1) (h2 : isNx F m o2) : o1 = o2 := by
  rcases h1 with ⟨rfl, h1⟩ | ⟨r1, a1, rfl, a2, a3⟩
  · rcases h2 with ⟨rfl, h2⟩ | ⟨r2, b1, rfl, b2, b3⟩
    · rfl
    · exact absurd b2 (h1 r2 b1)
  · rcases h2 with ⟨rfl, h2⟩ | ⟨r2, b1, rfl, b2, b3⟩
    · exact absurd a2 (h2 r1 a1)
    · rw [ahd_tot (b3 r1 a1 a2) (a3 r2 b1 b2)]
def dNext (D : Dk) (i : Nat) (o : Option Nat) : Dk := match o with | none => D | some k => (dN D, dF D, dK D, dA D, dI D, updf (dM D) i (some (some k)))
theorem ctX1_open {l : Launch} {g : jG} (hG : GS l g) (bg : va_W) {x i : Nat} {D : Dk} {w : va_W} (hD : isD g x D w) (hi : i ≤ 2) : KX1_open l g 3 0 [.ref x, .int (nI i)] bg [w] (fun y wd => y = some (.int (nI (if (dM D i).isSome then 0 else 1))) ∧ ∃ w2, wd = [w2] ∧ isD g x (dOpen D i) w2) := by
  obtain ⟨f2, k2, lg2, cl2, io2, mk2, hf2, hk2, ess2, essk2, xs2, d0, d1, d2, mv2, wl, wa, wf, we, wk, wke, wp, hp, hF, hE, h1x, hK, hG2, h2x, hA, hl9, ha, hm⟩ := hD
  refine Ctr.of [some (.ref x), some (.int (nI i)), none] hG (by decide +kernel) rfl (Nat.le_of_ble_eq_true rfl) (fun Y hl hN0 o r hIni => ?_)
  subst hl
  have hN : ∀ i, i < 3 → i < yN Y := fun i h => by rw [hN0]; exact h
  refine j_spP _ (hp) ?_
  dsimp only [List.cons_append, List.nil_append]
  refine j_ild_n o dX1_open_0 rfl (q := 1) rfl ?_
  refine j_callS0 o (ctX1_mustBeCursor hG _ hi) dX1_open_1 q1224 wdX1_mustBeCursor mdX1_mustBeCursor rfl (Nat.le_of_ble_eq_true rfl) (Nat.le_of_ble_eq_true rfl) (by omega) (Nat.le_of_ble_eq_true rfl) (q := 4) rfl (fun v wd hpost => ?_)
  obtain ⟨rfl, rfl⟩ := hpost
  dsimp only [List.cons_append, List.nil_append, Option.toList]
  refine j_ald_n o dX1_open_4 rfl rfl (q := 5) rfl ?_
  refine j_gf o dX1_open_5 (jw 0 0 rfl rfl) kcX1 11 (Nat.le_of_ble_eq_true rfl) q364 rfl (q := 8) rfl ?_
  refine j_ild_n o dX1_open_8 rfl (q := 9) rfl ?_
  refine j_zald o dX1_open_9 (jw 5 0 rfl rfl) (by omega) (by omega) (q := 10) rfl ?_
  refine j_ist2 o dX1_open_10 rfl (hN 2 (Nat.le_of_ble_eq_true rfl)) (q := 11) rfl ?_
  refine j_ald_n o dX1_open_11 rfl rfl (q := 12) rfl ?_
  refine j_gf o dX1_open_12 (jw 0 0 rfl rfl) kcX1 11 (Nat.le_of_ble_eq_true rfl) q364 rfl (q := 15) rfl ?_
  refine j_ild_n o dX1_open_15 rfl (q := 16) rfl ?_
  refine j_iconst o (nI 1) dX1_open_16 (by decide) (q := 17) rfl ?_
  refine j_zast o dX1_open_17 5 0 rfl rfl (by omega) (by omega) rfl (q := 18) rfl ?_
  dsimp only [List.set]
  refine j_fnA (k9 := 5) (j := 0) (f2 := opnF (dM (dOpen D i))) rfl rfl (fun j hj => ?_) ?_
  · show (if j = i then _ else opnF (dM D) j) = opnF (updf (dM D) i (some none)) j
    unfold opnF updf
    by_cases hji : j = i
    · rw [if_pos hji, if_pos hji]
      rfl
    · rw [if_neg hji, if_neg hji]
  dsimp only [List.set]
  refine j_ald_n o dX1_open_18 rfl rfl (q := 19) rfl ?_
  refine j_gf o dX1_open_19 (jw 0 0 rfl rfl) kcX1 12 (Nat.le_of_ble_eq_true rfl) q365 rfl (q := 22) rfl ?_
  refine j_ild_n o dX1_open_22 rfl (q := 23) rfl ?_
  refine j_bipush o (-2) dX1_open_23 (by decide) (q := 25) rfl ?_
  refine j_iast o dX1_open_25 6 0 rfl rfl (by omega) (by omega) (q := 26) rfl ?_
  dsimp only [List.set]
  refine j_fnA (k9 := 6) (j := 0) (f2 := fun j => if j = i then (-2 : Int32) else mv2 j) rfl rfl (fun j hj => rfl) ?_
  dsimp only [List.set]
  have hm2 : mkvF (dM (dOpen D i)) (fun j => if j = i then (-2 : Int32) else mv2 j) := by
    intro j a hj h
    have h : updf (dM D) i (some none) j = some a := h
    unfold updf at h
    by_cases hji : j = i
    · rw [if_pos hji] at h
      cases h
      show (if j = i then _ else _) = _
      rw [if_pos hji]
      rfl
    · rw [if_neg hji] at h
      show (if j = i then _ else _) = _
      rw [if_neg hji]
      exact hm j a hj h
  refine j_ild_n o dX1_open_26 rfl (q := 27) rfl ?_
  by_cases hs : (dM D i).isSome = true
  · refine j_ifneT o 34 dX1_open_27 (by decide) (by show ¬ opnF (dM D) i = 0; unfold opnF; rw [if_pos hs]; decide) ?_
    refine j_iconst o (nI 0) dX1_open_34 (by decide) (q := 35) rfl ?_
    refine j_mgN [_, _, _, _, _, _, _, _, _, _, _, _] (fun w4 hw4 => ?_)
    first | dsimp only [List.cons_append, List.nil_append] | skip
    exact j_ret o r dX1_open_35 rfl [_] _ rfl (⟨by rw [if_pos hs], w4, rfl, f2, k2, lg2, cl2, io2, mk2, hf2, hk2, ess2, essk2, xs2, d0, d1, d2, _, wl, wa, wf, we, wk, wke, wp, hw4, hF, hE, h1x, hK, hG2, h2x, hA, hl9, ha, hm2⟩) (by omega)
  · refine j_ifneF o (t := 34) dX1_open_27 (by decide) (q := 30) rfl (by show opnF (dM D) i = 0; unfold opnF; rw [if_neg hs]; rfl) ?_
    refine j_iconst o (nI 1) dX1_open_30 (by decide) (q := 31) rfl ?_
    refine j_goto o 35 dX1_open_31 (by decide) ?_
    refine j_mgN [_, _, _, _, _, _, _, _, _, _, _, _] (fun w4 hw4 => ?_)
    first | dsimp only [List.cons_append, List.nil_append] | skip
    exact j_ret o r dX1_open_35 rfl [_] _ rfl (⟨by rw [if_neg hs], w4, rfl, f2, k2, lg2, cl2, io2, mk2, hf2, hk2, ess2, essk2, xs2, d0, d1, d2, _, wl, wa, wf, we, wk, wke, wp, hw4, hF, hE, h1x, hK, hG2, h2x, hA, hl9, ha, hm2⟩) (by omega)
theorem ctxX1_open {l : Launch} {g : jG} (hG : GS l g) (bg : va_W) {x : Nat} {p : Int32} (h : ¬ inI 2 p) : EX1_open l g 9 1 [.ref x, .int p] bg xIOB := by
  refine CtrX.of [some (.ref x), some (.int p), none] hG (by decide +kernel) rfl (Nat.le_of_ble_eq_true rfl) (fun Y hl hN0 o r => ?_)
  subst hl
  have hN : ∀ i, i < 3 → i < yN Y := fun i h => by rw [hN0]; exact h
  refine j_ild_n o dX1_open_0 rfl (q := 1) rfl ?_
  exact j_callXS o (ctxX1_mustBeCursor hG _ h) dX1_open_1 q1224 wdX1_mustBeCursor mdX1_mustBeCursor rfl (Nat.le_of_ble_eq_true rfl) (Nat.le_of_ble_eq_true rfl) (by omega) (Nat.le_of_ble_eq_true rfl) (j_outX o r (by omega))
theorem ctX1_next {l : Launch} {g : jG} (hG : GS l g) (bg : va_W) {x i : Nat} {D : Dk} {m : Option Nat} {w : va_W} (hD : isD g x D w) (hI : InvD D) (hi : i ≤ 2) (hmi : dM D i = some m) : KX1_next l g 8 (uBh (fC (dF D)) (fB (dF D))) [.ref x, .int (nI i)] bg [w] (fun y wd => ∃ o, isNx (dF D) m o ∧ y = some (.int (gA o)) ∧ ∃ w2, wd = [w2] ∧ isD g x (dNext D i o) w2) := by
  obtain ⟨f2, k2, lg2, cl2, io2, mk2, hf2, hk2, ess2, essk2, xs2, d0, d1, d2, mv2, wl, wa, wf, we, wk, wke, wp, hp, hF, hE, h1x, hK, hG2, h2x, hA, hl9, ha, hm⟩ := hD
  have hmv : mv2 i = mkV m := hm i m (by omega) hmi
  have eU : uBh (fK5 (dF D)).1 (fB (dF D)) = uBh (fC (dF D)) (fB (dF D)) := rfl
  refine Ctr.of [some (.ref x), some (.int (nI i)), none] hG (by decide +kernel) rfl (Nat.le_of_ble_eq_true rfl) (fun Y hl hN0 o r hIni => ?_)
  subst hl
  have hN : ∀ i, i < 3 → i < yN Y := fun i h => by rw [hN0]; exact h
  refine j_spP _ (hp) ?_
  dsimp only [List.cons_append, List.nil_append]
  refine j_ild_n o dX1_next_0 rfl (q := 1) rfl ?_
  refine j_callS0 o (ctX1_mustBeCursor hG _ hi) dX1_next_1 q1224 wdX1_mustBeCursor mdX1_mustBeCursor rfl (Nat.le_of_ble_eq_true rfl) (Nat.le_of_ble_eq_true rfl) (by omega) (Nat.le_of_ble_eq_true rfl) (q := 4) rfl (fun v wd hpost => ?_)
  obtain ⟨rfl, rfl⟩ := hpost
  dsimp only [List.cons_append, List.nil_append, Option.toList]
  refine j_ald_n o dX1_next_4 rfl rfl (q := 5) rfl ?_
  refine j_gf o dX1_next_5 (jw 0 0 rfl rfl) kcX1 11 (Nat.le_of_ble_eq_true rfl) q364 rfl (q := 8) rfl ?_
  refine j_ild_n o dX1_next_8 rfl (q := 9) rfl ?_
  refine j_zald o dX1_next_9 (jw 5 0 rfl rfl) (by omega) (by omega) (q := 10) rfl ?_
  refine j_topi o (nI 1) ((by unfold opnF; rw [hmi]; rfl)) ?_
  refine j_callS0 o (ctX1_mustStand hG _ rfl) dX1_next_10 q1115 wdX1_mustStand mdX1_mustStand rfl (Nat.le_of_ble_eq_true rfl) (Nat.le_of_ble_eq_true rfl) (by omega) (Nat.le_of_ble_eq_true rfl) (q := 13) rfl (fun v wd hpost => ?_)
  obtain ⟨rfl, rfl⟩ := hpost
  dsimp only [List.cons_append, List.nil_append, Option.toList]
  refine j_ald_n o dX1_next_13 rfl rfl (q := 14) rfl ?_
  refine j_ald_n o dX1_next_14 rfl rfl (q := 15) rfl ?_
  refine j_gf o dX1_next_15 (jw 0 0 rfl rfl) kcX1 12 (Nat.le_of_ble_eq_true rfl) q365 rfl (q := 18) rfl ?_
  refine j_ild_n o dX1_next_18 rfl (q := 19) rfl ?_
  refine j_iald o dX1_next_19 (jw 6 0 rfl rfl) (by omega) (by omega) (q := 20) rfl ?_
  rw [hmv]
  refine j_callV0 o (ctX1_behind hG _ (F5 := fK5 (dF D)) (jwl 0 rfl (List.mem_singleton.mpr rfl)) (isSt.r hF (fun _ h => jwl 7 rfl h)) (hE.mono (fun _ h => jwl 8 rfl h)) (jwl 11 rfl h1x) hI.1.1 hI.1.2.1 hI.1.2.2.1 (fun a e => hI.2.2.2.2.2.2.2.2.2.2 i a (by rw [hmi, e]))) dX1_next_20 q1252 wdX1_behind mdX1_behind (jw 0 0 rfl rfl) (by rfl) (by rfl) rfl (Nat.le_of_ble_eq_true rfl) (Nat.le_of_ble_eq_true rfl) (by omega) (Nat.le_of_ble_eq_true rfl) (q := 23) rfl (fun v wd hpost => ?_)
  obtain ⟨⟨v2, rfl, hb⟩, rfl⟩ := hpost
  dsimp only [List.cons_append, List.nil_append, Option.toList]
  rcases hb with ⟨rfl, hb⟩ | ⟨e, r9, rfl, hen, hr9, hb, hb2⟩
  · refine j_ast2 o dX1_next_23 rfl rfl (hN 2 (Nat.le_of_ble_eq_true rfl)) (q := 24) rfl ?_
    refine j_ald_n o dX1_next_24 rfl rfl (q := 25) rfl ?_
    refine j_ifnnN o dX1_next_25 (q := 28) rfl ?_
    refine j_iconst o (-1) dX1_next_28 (by decide) (q := 29) rfl ?_
    refine j_mgN [_, _, _, _, _, _, _, _, _, _, _, _] (fun w4 hw4 => ?_)
    first | dsimp only [List.cons_append, List.nil_append] | skip
    exact j_ret o r dX1_next_29 rfl [_] _ rfl (⟨none, Or.inl ⟨rfl, hb⟩, rfl, w4, rfl, f2, k2, lg2, cl2, io2, mk2, hf2, hk2, ess2, essk2, xs2, d0, d1, d2, _, wl, wa, wf, we, wk, wke, wp, hw4, hF, hE, h1x, hK, hG2, h2x, hA, hl9, ha, hm⟩) (by omega)
  · refine j_ast2 o dX1_next_23 rfl rfl (hN 2 (Nat.le_of_ble_eq_true rfl)) (q := 24) rfl ?_
    refine j_ald_n o dX1_next_24 rfl rfl (q := 25) rfl ?_
    refine j_ifnn o 30 dX1_next_25 (by decide) ?_
    have hen2 : jM Y bg [[(x, dkO (dN D) f2 k2 lg2 cl2 io2 mk2)], wl, wa, [(cl2, eQ g 4 3 (fun i => [d0, d1, d2][i]?))], [(d0, clO (dI D 0)), (d1, clO (dI D 1)), (d2, clO (dI D 2))], [(io2, eA g 1 3 (opnF (dM D)))], [(mk2, eA g 0 3 mv2)], wf, we, wk, wke, wp] (e, enO r9) := by
      rcases List.mem_append.mp hen with h | h
      · exact Or.inl h
      · exact Or.inr h
    refine j_ald_n o dX1_next_30 rfl rfl (q := 31) rfl ?_
    refine j_gf o dX1_next_31 (jw 0 0 rfl rfl) kcX1 12 (Nat.le_of_ble_eq_true rfl) q365 rfl (q := 34) rfl ?_
    refine j_ild_n o dX1_next_34 rfl (q := 35) rfl ?_
    refine j_ald_n o dX1_next_35 rfl rfl (q := 36) rfl ?_
    refine j_gf o dX1_next_36 hen2 kcX11 0 (Nat.le_of_ble_eq_true rfl) q447 rfl (q := 39) rfl ?_
    refine j_iast o dX1_next_39 6 0 rfl rfl (by omega) (by omega) (q := 40) rfl ?_
    dsimp only [List.set]
    refine j_fnA (k9 := 6) (j := 0) (f2 := fun j => if j = i then nI r9.1 else mv2 j) rfl rfl (fun j hj => rfl) ?_
    dsimp only [List.set]
    have hm2 : mkvF (dM (dNext D i (some r9.1))) (fun j => if j = i then nI r9.1 else mv2 j) := by
      intro j a hj h
      have h : updf (dM D) i (some (some r9.1)) j = some a := h
      unfold updf at h
      by_cases hji : j = i
      · rw [if_pos hji] at h
        cases h
        show (if j = i then _ else _) = _
        rw [if_pos hji]
        rfl
      · rw [if_neg hji] at h
        show (if j = i then _ else _) = _
        rw [if_neg hji]
        exact hm j a hj h
    have hop : opnF (dM D) = opnF (dM (dNext D i (some r9.1))) := by
      funext j
      show _ = opnF (updf (dM D) i (some (some r9.1))) j
      unfold opnF updf
      by_cases hji : j = i
      · rw [if_pos hji, hji, hmi]
        rfl
      · rw [if_neg hji]
    have hen3 : jM Y bg [[(x, dkO (dN D) f2 k2 lg2 cl2 io2 mk2)], wl, wa, [(cl2, eQ g 4 3 (fun i => [d0, d1, d2][i]?))], [(d0, clO (dI D 0)), (d1, clO (dI D 1)), (d2, clO (dI D 2))], [(io2, eA g 1 3 (opnF (dM D)))], [(mk2, eA g 0 3 (fun j => if j = i then nI r9.1 else mv2 j))], wf, we, wk, wke, wp] (e, enO r9) := by
      rcases hen2 with h | h
      · refine Or.inl ?_
        simp only [List.flatten_cons, List.mem_append, List.mem_cons, List.not_mem_nil, or_false, Prod.mk.injEq] at h ⊢
        rcases h with h | h | h | h | h | h | h | h
        · exact Or.inl h
        · exact Or.inr (Or.inl h)
        · exact Or.inr (Or.inr (Or.inl h))
        · exact Or.inr (Or.inr (Or.inr (Or.inl h)))
        · exact Or.inr (Or.inr (Or.inr (Or.inr (Or.inl h))))
        · exact Or.inr (Or.inr (Or.inr (Or.inr (Or.inr (Or.inl h)))))
        · exact absurd h.2 (by intro h9; cases h9)
        · exact Or.inr (Or.inr (Or.inr (Or.inr (Or.inr (Or.inr (Or.inr h))))))
      · exact Or.inr h
    refine j_ald_n o dX1_next_40 rfl rfl (q := 41) rfl ?_
    refine j_gf o dX1_next_41 hen3 kcX11 0 (Nat.le_of_ble_eq_true rfl) q447 rfl (q := 44) rfl ?_
    rw [hop]
    refine j_mgN [_, _, _, _, _, _, _, _, _, _, _, _] (fun w4 hw4 => ?_)
    first | dsimp only [List.cons_append, List.nil_append] | skip
    exact j_ret o r dX1_next_44 rfl [_] _ rfl (⟨some r9.1, Or.inr ⟨r9, hr9, rfl, hb, hb2⟩, rfl, w4, rfl, f2, k2, lg2, cl2, io2, mk2, hf2, hk2, ess2, essk2, xs2, d0, d1, d2, _, wl, wa, wf, we, wk, wke, wp, hw4, hF, hE, h1x, hK, hG2, h2x, hA, hl9, ha, hm2⟩) (by omega)
theorem ctxX1_nextI {l : Launch} {g : jG} (hG : GS l g) (bg : va_W) {x : Nat} {p : Int32} (h : ¬ inI 2 p) : EX1_next l g 9 1 [.ref x, .int p] bg xIOB := by
  refine CtrX.of [some (.ref x), some (.int p), none] hG (by decide +kernel) rfl (Nat.le_of_ble_eq_true rfl) (fun Y hl hN0 o r => ?_)
  subst hl
  have hN : ∀ i, i < 3 → i < yN Y := fun i h => by rw [hN0]; exact h
  refine j_ild_n o dX1_next_0 rfl (q := 1) rfl ?_
  exact j_callXS o (ctxX1_mustBeCursor hG _ h) dX1_next_1 q1224 wdX1_mustBeCursor mdX1_mustBeCursor rfl (Nat.le_of_ble_eq_true rfl) (Nat.le_of_ble_eq_true rfl) (by omega) (Nat.le_of_ble_eq_true rfl) (j_outX o r (by omega))
theorem ctxX1_nextS {l : Launch} {g : jG} (hG : GS l g) (bg : va_W) {x i : Nat} {D : Dk} (hD : rD g bg x D) (hi : i ≤ 2) (hmi : dM D i = none) : EX1_next l g 9 1 [.ref x, .int (nI i)] bg xISE := by
  obtain ⟨f, kk, lg, cl, io, mk, hf, hk9, ess, essk, xs, c0, c1, c2, mv, a1, a2, a3, a4, a5, a6, a7, a8, a9, a10, a11, a12, a13, -⟩ := hD
  refine CtrX.of [some (.ref x), some (.int (nI i)), none] hG (by decide +kernel) rfl (Nat.le_of_ble_eq_true rfl) (fun Y hl hN0 o r => ?_)
  subst hl
  have hN : ∀ i, i < 3 → i < yN Y := fun i h => by rw [hN0]; exact h
  refine j_ild_n o dX1_next_0 rfl (q := 1) rfl ?_
  refine j_callS0 o (ctX1_mustBeCursor hG _ hi) dX1_next_1 q1224 wdX1_mustBeCursor mdX1_mustBeCursor rfl (Nat.le_of_ble_eq_true rfl) (Nat.le_of_ble_eq_true rfl) (by omega) (Nat.le_of_ble_eq_true rfl) (q := 4) rfl (fun v wd hpost => ?_)
  obtain ⟨rfl, rfl⟩ := hpost
  dsimp only [List.cons_append, List.nil_append, Option.toList]
  refine j_ald_n o dX1_next_4 rfl rfl (q := 5) rfl ?_
  refine j_gf o dX1_next_5 (jb a1) kcX1 11 (Nat.le_of_ble_eq_true rfl) q364 rfl (q := 8) rfl ?_
  refine j_ild_n o dX1_next_8 rfl (q := 9) rfl ?_
  refine j_zald o dX1_next_9 (jb a13) (by omega) (by omega) (q := 10) rfl ?_
  refine j_topi o (nI 0) ((by unfold opnF; rw [hmi]; rfl)) ?_
  exact j_callXS o (ctxX1_mustStand hG _) dX1_next_10 q1115 wdX1_mustStand mdX1_mustStand rfl (Nat.le_of_ble_eq_true rfl) (Nat.le_of_ble_eq_true rfl) (by omega) (Nat.le_of_ble_eq_true rfl) (j_outX o r (by omega))
def mkA (o : Option (Option Nat)) : Int32 := match o with | none => -1 | some m => mkV m
theorem ctX1_markNow {l : Launch} {g : jG} (hG : GS l g) (bg : va_W) {x i : Nat} {D : Dk} (hD : rD g bg x D) (hi : i ≤ 2) : KX1_markNow l g 1 0 [.ref x, .int (nI i)] bg [] (fun y wd => y = some (.int (mkA (dM D i))) ∧ wd = []) := by
  obtain ⟨f, kk, lg, cl, io, mk, hf, hk9, ess, essk, xs, c0, c1, c2, mv, a1, a2, a3, a4, a5, a6, a7, a8, a9, a10, a11, a12, a13, a14, a15⟩ := hD
  refine Ctr.of [some (.ref x), some (.int (nI i))] hG (by decide +kernel) rfl (Nat.le_of_ble_eq_true rfl) (fun Y hl hN0 o r hIni => ?_)
  subst hl
  have hN : ∀ i, i < 2 → i < yN Y := fun i h => by rw [hN0]; exact h
  refine j_ald_n o dX1_markNow_0 rfl rfl (q := 1) rfl ?_
  refine j_gf o dX1_markNow_1 (jb a1) kcX1 11 (Nat.le_of_ble_eq_true rfl) q364 rfl (q := 4) rfl ?_
  refine j_ild_n o dX1_markNow_4 rfl (q := 5) rfl ?_
  refine j_zald o dX1_markNow_5 (jb a13) (by omega) (by omega) (q := 6) rfl ?_
  cases hmi : dM D i with
  | none =>
    refine j_ifeqT o 18 dX1_markNow_6 (by decide) (by show opnF (dM D) i = 0; unfold opnF; rw [hmi]; rfl) ?_
    refine j_iconst o (-1) dX1_markNow_18 (by decide) (q := 19) rfl ?_
    exact j_ret o r dX1_markNow_19 rfl [] _ rfl (⟨by rw [hmi]; rfl, rfl⟩) (by omega)
  | some m =>
    refine j_ifeqF o (t := 18) dX1_markNow_6 (by decide) (q := 9) rfl (by show ¬ opnF (dM D) i = 0; unfold opnF; rw [hmi]; exact (by decide : ¬ nI 1 = 0)) ?_
    refine j_ald_n o dX1_markNow_9 rfl rfl (q := 10) rfl ?_
    refine j_gf o dX1_markNow_10 (jb a1) kcX1 12 (Nat.le_of_ble_eq_true rfl) q365 rfl (q := 13) rfl ?_
    refine j_ild_n o dX1_markNow_13 rfl (q := 14) rfl ?_
    refine j_iald o dX1_markNow_14 (jb a14) (by omega) (by omega) (q := 15) rfl ?_
    rw [a15 i m (by omega) hmi]
    refine j_goto o 19 dX1_markNow_15 (by decide) ?_
    exact j_ret o r dX1_markNow_19 rfl [] _ rfl (⟨by rw [hmi]; rfl, rfl⟩) (by omega)
theorem ctX1_mark {l : Launch} {g : jG} (hG : GS l g) (bg : va_W) {x i : Nat} {D : Dk} (hD : rD g bg x D) (hi : i ≤ 2) : KX1_mark l g 3 0 [.ref x, .int (nI i)] bg [] (fun y wd => y = some (.int (mkA (dM D i))) ∧ wd = []) := by
  obtain ⟨f, kk, lg, cl, io, mk, hf, hk9, ess, essk, xs, c0, c1, c2, mv, a1, -⟩ := id hD
  refine Ctr.of [some (.ref x), some (.int (nI i))] hG (by decide +kernel) rfl (Nat.le_of_ble_eq_true rfl) (fun Y hl hN0 o r hIni => ?_)
  subst hl
  have hN : ∀ i, i < 2 → i < yN Y := fun i h => by rw [hN0]; exact h
  refine j_ild_n o dX1_mark_0 rfl (q := 1) rfl ?_
  refine j_callS0 o (ctX1_mustBeCursor hG _ hi) dX1_mark_1 q1224 wdX1_mustBeCursor mdX1_mustBeCursor rfl (Nat.le_of_ble_eq_true rfl) (Nat.le_of_ble_eq_true rfl) (by omega) (Nat.le_of_ble_eq_true rfl) (q := 4) rfl (fun v wd hpost => ?_)
  obtain ⟨rfl, rfl⟩ := hpost
  dsimp only [List.cons_append, List.nil_append, Option.toList]
  refine j_ald_n o dX1_mark_4 rfl rfl (q := 5) rfl ?_
  refine j_ild_n o dX1_mark_5 rfl (q := 6) rfl ?_
  refine j_callV0 o (ctX1_markNow hG _ (hD.mono (fun _ => jmr)) hi) dX1_mark_6 q1009 wdX1_markNow mdX1_markNow (jb a1) (by rfl) (by rfl) rfl (Nat.le_of_ble_eq_true rfl) (Nat.le_of_ble_eq_true rfl) (by omega) (Nat.le_of_ble_eq_true rfl) (q := 9) rfl (fun v wd hpost => ?_)
  obtain ⟨rfl, rfl⟩ := hpost
  dsimp only [List.cons_append, List.nil_append, Option.toList]
  exact j_ret o r dX1_mark_9 rfl [] _ rfl (⟨rfl, rfl⟩) (by omega)
theorem ctxX1_mark {l : Launch} {g : jG} (hG : GS l g) (bg : va_W) {x : Nat} {p : Int32} (h : ¬ inI 2 p) : EX1_mark l g 9 1 [.ref x, .int p] bg xIOB := by
  refine CtrX.of [some (.ref x), some (.int p)] hG (by decide +kernel) rfl (Nat.le_of_ble_eq_true rfl) (fun Y hl hN0 o r => ?_)
  subst hl
  have hN : ∀ i, i < 2 → i < yN Y := fun i h => by rw [hN0]; exact h
  refine j_ild_n o dX1_mark_0 rfl (q := 1) rfl ?_
  exact j_callXS o (ctxX1_mustBeCursor hG _ h) dX1_mark_1 q1224 wdX1_mustBeCursor mdX1_mustBeCursor rfl (Nat.le_of_ble_eq_true rfl) (Nat.le_of_ble_eq_true rfl) (by omega) (Nat.le_of_ble_eq_true rfl) (j_outX o r (by omega))
theorem cl_at {c0 c1 c2 i : Nat} (hi : i ≤ 2) : ∃ c, [c0, c1, c2][i]? = some c := ⟨_, List.getElem?_eq_getElem (by simp; omega)⟩
theorem ctX1_mustBeClient {l : Launch} {g : jG} (hG : GS l g) (bg : va_W) {x i c : Nat} {n : N7} {f k lg cl io mk : Nat} {cs : List Nat} (hx : (x, dkO n f k lg cl io mk) ∈ bg) (hcl : (cl, eQ g 4 3 (fun i => cs[i]?)) ∈ bg) (hi : i ≤ 2) (hc : cs[i]? = some c) : KX1_mustBeClient l g 2 0 [.ref x, .int (nI i)] bg [] (fun y wd => y = some (.ref c) ∧ wd = []) := by
  refine Ctr.of [some (.ref x), some (.int (nI i))] hG (by decide +kernel) rfl (Nat.le_of_ble_eq_true rfl) (fun Y hl hN0 o r hIni => ?_)
  subst hl
  have hN : ∀ i, i < 2 → i < yN Y := fun i h => by rw [hN0]; exact h
  refine j_ild_n o dX1_mustBeClient_0 rfl (q := 1) rfl ?_
  refine j_iconst o (nI 0) dX1_mustBeClient_1 (by decide) (q := 2) rfl ?_
  refine j_iconst o (nI 2) dX1_mustBeClient_2 (by decide) (q := 3) rfl ?_
  refine j_callS0 o (ctX1_isIn hG _ _ _ _) dX1_mustBeClient_3 q1057 wdX1_isIn mdX1_isIn rfl (Nat.le_of_ble_eq_true rfl) (Nat.le_of_ble_eq_true rfl) (by omega) (Nat.le_of_ble_eq_true rfl) (q := 6) rfl (fun v wd hpost => ?_)
  obtain ⟨rfl, rfl⟩ := hpost
  dsimp only [List.cons_append, List.nil_append, Option.toList]
  rw [isIn1 ⟨Nat.zero_le _, hi⟩ (by omega)]
  refine j_callS0 o (ctX1_mustBe hG _ rfl) dX1_mustBeClient_6 q1227 wdX1_mustBe mdX1_mustBe rfl (Nat.le_of_ble_eq_true rfl) (Nat.le_of_ble_eq_true rfl) (by omega) (Nat.le_of_ble_eq_true rfl) (q := 9) rfl (fun v wd hpost => ?_)
  obtain ⟨rfl, rfl⟩ := hpost
  dsimp only [List.cons_append, List.nil_append, Option.toList]
  refine j_ald_n o dX1_mustBeClient_9 rfl rfl (q := 10) rfl ?_
  refine j_gf o dX1_mustBeClient_10 (jb hx) kcX1 10 (Nat.le_of_ble_eq_true rfl) q363 rfl (q := 13) rfl ?_
  refine j_ild_n o dX1_mustBeClient_13 rfl (q := 14) rfl ?_
  refine j_aald o dX1_mustBeClient_14 (r := c) (jb hcl) rfl (by omega) (by omega) hc (q := 15) rfl ?_
  exact j_aret o r dX1_mustBeClient_15 (by first | exact Or.inl ⟨_, rfl⟩ | exact Or.inr ⟨_, rfl⟩) rfl [] _ rfl (⟨rfl, rfl⟩) (by omega)
theorem ctxX1_mustBeClient {l : Launch} {g : jG} (hG : GS l g) (bg : va_W) {x : Nat} {p : Int32} (h : ¬ inI 2 p) : EX1_mustBeClient l g 8 1 [.ref x, .int p] bg xIOB := by
  refine CtrX.of [some (.ref x), some (.int p)] hG (by decide +kernel) rfl (Nat.le_of_ble_eq_true rfl) (fun Y hl hN0 o r => ?_)
  subst hl
  have hN : ∀ i, i < 2 → i < yN Y := fun i h => by rw [hN0]; exact h
  refine j_ild_n o dX1_mustBeClient_0 rfl (q := 1) rfl ?_
  refine j_iconst o (nI 0) dX1_mustBeClient_1 (by decide) (q := 2) rfl ?_
  refine j_iconst o (nI 2) dX1_mustBeClient_2 (by decide) (q := 3) rfl ?_
  refine j_callS0 o (ctX1_isIn hG _ _ _ _) dX1_mustBeClient_3 q1057 wdX1_isIn mdX1_isIn rfl (Nat.le_of_ble_eq_true rfl) (Nat.le_of_ble_eq_true rfl) (by omega) (Nat.le_of_ble_eq_true rfl) (q := 6) rfl (fun v wd hpost => ?_)
  obtain ⟨rfl, rfl⟩ := hpost
  dsimp only [List.cons_append, List.nil_append, Option.toList]
  rw [isIn0 h]
  exact j_callXS o (ctxX1_mustBe hG _) dX1_mustBeClient_6 q1227 wdX1_mustBe mdX1_mustBe rfl (Nat.le_of_ble_eq_true rfl) (Nat.le_of_ble_eq_true rfl) (by omega) (Nat.le_of_ble_eq_true rfl) (j_outX o r (by omega))
/-- what a client is asked: level, pointer, by how many buckets the file has more -/
def clA (D : Dk) (i what : Nat) : Int32 := if what = 0 then nI (lvl (dI D i)) else if what = 1 then nI (ptr (dI D i)) else nI (fB (dF D)).length - nI (dI D i)
theorem ctX1_ofClientNow {l : Launch} {g : jG} (hG : GS l g) (bg : va_W) {x i what c : Nat} {D : Dk} (hD : rD g bg x D) (hI : InvD D) (hc : (c, clO (dI D i)) ∈ bg) (hw : what ≤ 2) : KX1_ofClientNow l g 2 0 [.ref x, .ref c, .int (nI what)] bg [] (fun y wd => y = some (.int (clA D i what)) ∧ wd = []) := by
  obtain ⟨f, kk, lg, cl, io, mk, hf, hk9, ess, essk, xs, c0, c1, c2, mv, a1, a2, a3, a4, -⟩ := hD
  obtain ⟨bl, tk, qs, r1, r2, r3, r4, -⟩ := id a2
  obtain ⟨m5, b5, hz5, -⟩ := id r3
  obtain ⟨h2, h9⟩ := hI.2.2.2.2.2.2.2.2.2.1 i
  refine Ctr.of [some (.ref x), some (.ref c), some (.int (nI what))] hG (by decide +kernel) rfl (Nat.le_of_ble_eq_true rfl) (fun Y hl hN0 o r hIni => ?_)
  subst hl
  have hN : ∀ i, i < 3 → i < yN Y := fun i h => by rw [hN0]; exact h
  refine j_ild_n o dX1_ofClientNow_0 rfl (q := 1) rfl ?_
  refine j_ifne o 11 dX1_ofClientNow_1 (by decide) (q := 4) rfl (fun h1 => ?_) (fun h1 => ?_)
  · refine j_ild_n o dX1_ofClientNow_11 rfl (q := 12) rfl ?_
    refine j_iconst o (nI 1) dX1_ofClientNow_12 (by decide) (q := 13) rfl ?_
    refine j_icne o 23 dX1_ofClientNow_13 (by decide) (q := 16) rfl (fun h3 => ?_) (fun h3 => ?_)
    · refine j_ald_n o dX1_ofClientNow_23 rfl rfl (q := 24) rfl ?_
      refine j_gf o dX1_ofClientNow_24 (jb a1) kcX1 7 (Nat.le_of_ble_eq_true rfl) q360 rfl (q := 27) rfl ?_
      refine j_gf o dX1_ofClientNow_27 (jb r1) kcX2 9 (Nat.le_of_ble_eq_true rfl) q310 rfl (q := 30) rfl ?_
      refine j_callV0 o (ctJ2_size hG _ (jmr hz5)) dX1_ofClientNow_30 q398 wdJ2_size mdJ2_size (jb hz5) (by rfl) (by rfl) rfl (Nat.le_of_ble_eq_true rfl) (Nat.le_of_ble_eq_true rfl) (by omega) (Nat.le_of_ble_eq_true rfl) (q := 33) rfl (fun v wd hpost => ?_)
      obtain ⟨rfl, rfl⟩ := hpost
      dsimp only [List.cons_append, List.nil_append, Option.toList]
      refine j_ald_n o dX1_ofClientNow_33 rfl rfl (q := 34) rfl ?_
      refine j_callV0 o (ctX6_buckets hG _ (jmr hc) h2 h9) dX1_ofClientNow_34 q1017 wdX6_buckets mdX6_buckets (jb hc) (by rfl) (by rfl) rfl (Nat.le_of_ble_eq_true rfl) (Nat.le_of_ble_eq_true rfl) (by omega) (Nat.le_of_ble_eq_true rfl) (q := 37) rfl (fun v wd hpost => ?_)
      obtain ⟨rfl, rfl⟩ := hpost
      dsimp only [List.cons_append, List.nil_append, Option.toList]
      refine j_isub o dX1_ofClientNow_37 (q := 38) rfl ?_
      have e0 : what ≠ 0 := fun e => h1 (by rw [e]; rfl)
      have e1 : what ≠ 1 := fun e => h3 (by rw [e])
      exact j_ret o r dX1_ofClientNow_38 rfl [] _ rfl (⟨by unfold clA; rw [if_neg e0, if_neg e1, show qs.length = (fB (dF D)).length from r4], rfl⟩) (by omega)
    · have e1 : what = 1 := (nI_eq (by omega) (by omega)).mp h3
      refine j_ald_n o dX1_ofClientNow_16 rfl rfl (q := 17) rfl ?_
      refine j_gf o dX1_ofClientNow_17 (jb hc) kcX6 1 (Nat.le_of_ble_eq_true rfl) q347 rfl (q := 20) rfl ?_
      refine j_goto o 38 dX1_ofClientNow_20 (by decide) ?_
      exact j_ret o r dX1_ofClientNow_38 rfl [] _ rfl (⟨by unfold clA; rw [if_neg (by omega), if_pos e1], rfl⟩) (by omega)
  · have e0 : what = 0 := (nI_eq (by omega) (by omega)).mp (show nI what = nI 0 from h1)
    refine j_ald_n o dX1_ofClientNow_4 rfl rfl (q := 5) rfl ?_
    refine j_gf o dX1_ofClientNow_5 (jb hc) kcX6 0 (Nat.le_of_ble_eq_true rfl) q345 rfl (q := 8) rfl ?_
    refine j_goto o 38 dX1_ofClientNow_8 (by decide) ?_
    exact j_ret o r dX1_ofClientNow_38 rfl [] _ rfl (⟨by unfold clA; rw [if_pos e0], rfl⟩) (by omega)
theorem ctX1_ofClient {l : Launch} {g : jG} (hG : GS l g) (bg : va_W) {x i what : Nat} {D : Dk} (hD : rD g bg x D) (hI : InvD D) (hi : i ≤ 2) (hw : what ≤ 2) : KX1_ofClient l g 3 0 [.ref x, .int (nI i), .int (nI what)] bg [] (fun y wd => y = some (.int (clA D i what)) ∧ wd = []) := by
  obtain ⟨f, kk, lg, cl, io, mk, hf, hk9, ess, essk, xs, c0, c1, c2, mv, a1, a2, a3, a4, a5, a6, a7, a8, a9, a10, a11, a12, -⟩ := id hD
  obtain ⟨c, hc⟩ := cl_at (c0 := c0) (c1 := c1) (c2 := c2) hi
  have hcc := a12 i c (by omega) hc
  refine Ctr.of [some (.ref x), some (.int (nI i)), some (.int (nI what)), none] hG (by decide +kernel) rfl (Nat.le_of_ble_eq_true rfl) (fun Y hl hN0 o r hIni => ?_)
  subst hl
  have hN : ∀ i, i < 4 → i < yN Y := fun i h => by rw [hN0]; exact h
  refine j_ald_n o dX1_ofClient_0 rfl rfl (q := 1) rfl ?_
  refine j_ild_n o dX1_ofClient_1 rfl (q := 2) rfl ?_
  refine j_callV0 o (ctX1_mustBeClient hG _ (n := dN D) (cs := [c0, c1, c2]) (jmr a1) (jmr a11) hi hc) dX1_ofClient_2 q1272 wdX1_mustBeClient mdX1_mustBeClient (jb a1) (by rfl) (by rfl) rfl (Nat.le_of_ble_eq_true rfl) (Nat.le_of_ble_eq_true rfl) (by omega) (Nat.le_of_ble_eq_true rfl) (q := 5) rfl (fun v wd hpost => ?_)
  obtain ⟨rfl, rfl⟩ := hpost
  dsimp only [List.cons_append, List.nil_append, Option.toList]
  refine j_ast3 o dX1_ofClient_5 rfl rfl (hN 3 (Nat.le_of_ble_eq_true rfl)) (q := 6) rfl ?_
  refine j_ild_n o dX1_ofClient_6 rfl (q := 7) rfl ?_
  refine j_iconst o (nI 0) dX1_ofClient_7 (by decide) (q := 8) rfl ?_
  refine j_iconst o (nI 2) dX1_ofClient_8 (by decide) (q := 9) rfl ?_
  refine j_callS0 o (ctX1_isIn hG _ _ _ _) dX1_ofClient_9 q1057 wdX1_isIn mdX1_isIn rfl (Nat.le_of_ble_eq_true rfl) (Nat.le_of_ble_eq_true rfl) (by omega) (Nat.le_of_ble_eq_true rfl) (q := 12) rfl (fun v wd hpost => ?_)
  obtain ⟨rfl, rfl⟩ := hpost
  dsimp only [List.cons_append, List.nil_append, Option.toList]
  rw [isIn1 ⟨Nat.zero_le _, hw⟩ (by omega)]
  refine j_callS0 o (ctX1_mustFit hG _ rfl) dX1_ofClient_12 q1060 wdX1_mustFit mdX1_mustFit rfl (Nat.le_of_ble_eq_true rfl) (Nat.le_of_ble_eq_true rfl) (by omega) (Nat.le_of_ble_eq_true rfl) (q := 15) rfl (fun v wd hpost => ?_)
  obtain ⟨rfl, rfl⟩ := hpost
  dsimp only [List.cons_append, List.nil_append, Option.toList]
  refine j_ald_n o dX1_ofClient_15 rfl rfl (q := 16) rfl ?_
  refine j_ald_n o dX1_ofClient_16 rfl rfl (q := 17) rfl ?_
  refine j_ild_n o dX1_ofClient_17 rfl (q := 18) rfl ?_
  refine j_callV0 o (ctX1_ofClientNow hG _ (i := i) (hD.mono (fun _ => jmr)) hI (jmr hcc) hw) dX1_ofClient_18 q1013 wdX1_ofClientNow mdX1_ofClientNow (jb a1) (by rfl) (by rfl) rfl (Nat.le_of_ble_eq_true rfl) (Nat.le_of_ble_eq_true rfl) (by omega) (Nat.le_of_ble_eq_true rfl) (q := 21) rfl (fun v wd hpost => ?_)
  obtain ⟨rfl, rfl⟩ := hpost
  dsimp only [List.cons_append, List.nil_append, Option.toList]
  exact j_ret o r dX1_ofClient_21 rfl [] _ rfl (⟨rfl, rfl⟩) (by omega)
theorem ctxX1_ofClientI {l : Launch} {g : jG} (hG : GS l g) (bg : va_W) {x : Nat} {D : Dk} {p q : Int32} (hD : rD g bg x D) (h : ¬ inI 2 p) : EX1_ofClient l g 9 1 [.ref x, .int p, .int q] bg xIOB := by
  obtain ⟨f, kk, lg, cl, io, mk, hf, hk9, ess, essk, xs, c0, c1, c2, mv, a1, -⟩ := hD
  refine CtrX.of [some (.ref x), some (.int p), some (.int q), none] hG (by decide +kernel) rfl (Nat.le_of_ble_eq_true rfl) (fun Y hl hN0 o r => ?_)
  subst hl
  have hN : ∀ i, i < 4 → i < yN Y := fun i h => by rw [hN0]; exact h
  refine j_ald_n o dX1_ofClient_0 rfl rfl (q := 1) rfl ?_
  refine j_ild_n o dX1_ofClient_1 rfl (q := 2) rfl ?_
  exact j_callXV o (ctxX1_mustBeClient hG _ h) dX1_ofClient_2 q1272 wdX1_mustBeClient mdX1_mustBeClient (jb a1) (by rfl) (by rfl) rfl (Nat.le_of_ble_eq_true rfl) (Nat.le_of_ble_eq_true rfl) (by omega) (Nat.le_of_ble_eq_true rfl) (j_outX o r (by omega))
theorem ctxX1_ofClientA {l : Launch} {g : jG} (hG : GS l g) (bg : va_W) {x i : Nat} {D : Dk} {q : Int32} (hD : rD g bg x D) (hi : i ≤ 2) (h : ¬ inI 2 q) : EX1_ofClient l g 8 1 [.ref x, .int (nI i), .int q] bg xIAE := by
  obtain ⟨f, kk, lg, cl, io, mk, hf, hk9, ess, essk, xs, c0, c1, c2, mv, a1, a2, a3, a4, a5, a6, a7, a8, a9, a10, a11, a12, -⟩ := id hD
  obtain ⟨c, hc⟩ := cl_at (c0 := c0) (c1 := c1) (c2 := c2) hi
  refine CtrX.of [some (.ref x), some (.int (nI i)), some (.int q), none] hG (by decide +kernel) rfl (Nat.le_of_ble_eq_true rfl) (fun Y hl hN0 o r => ?_)
  subst hl
  have hN : ∀ i, i < 4 → i < yN Y := fun i h => by rw [hN0]; exact h
  refine j_ald_n o dX1_ofClient_0 rfl rfl (q := 1) rfl ?_
  refine j_ild_n o dX1_ofClient_1 rfl (q := 2) rfl ?_
  refine j_callV0 o (ctX1_mustBeClient hG _ (n := dN D) (cs := [c0, c1, c2]) (jmr a1) (jmr a11) hi hc) dX1_ofClient_2 q1272 wdX1_mustBeClient mdX1_mustBeClient (jb a1) (by rfl) (by rfl) rfl (Nat.le_of_ble_eq_true rfl) (Nat.le_of_ble_eq_true rfl) (by omega) (Nat.le_of_ble_eq_true rfl) (q := 5) rfl (fun v wd hpost => ?_)
  obtain ⟨rfl, rfl⟩ := hpost
  dsimp only [List.cons_append, List.nil_append, Option.toList]
  refine j_ast3 o dX1_ofClient_5 rfl rfl (hN 3 (Nat.le_of_ble_eq_true rfl)) (q := 6) rfl ?_
  refine j_ild_n o dX1_ofClient_6 rfl (q := 7) rfl ?_
  refine j_iconst o (nI 0) dX1_ofClient_7 (by decide) (q := 8) rfl ?_
  refine j_iconst o (nI 2) dX1_ofClient_8 (by decide) (q := 9) rfl ?_
  refine j_callS0 o (ctX1_isIn hG _ _ _ _) dX1_ofClient_9 q1057 wdX1_isIn mdX1_isIn rfl (Nat.le_of_ble_eq_true rfl) (Nat.le_of_ble_eq_true rfl) (by omega) (Nat.le_of_ble_eq_true rfl) (q := 12) rfl (fun v wd hpost => ?_)
  obtain ⟨rfl, rfl⟩ := hpost
  dsimp only [List.cons_append, List.nil_append, Option.toList]
  rw [isIn0 h]
  exact j_callXS o (ctxX1_mustFit hG _) dX1_ofClient_12 q1060 wdX1_mustFit mdX1_mustFit rfl (Nat.le_of_ble_eq_true rfl) (Nat.le_of_ble_eq_true rfl) (by omega) (Nat.le_of_ble_eq_true rfl) (j_outX o r (by omega))
