/-! THE DESK, second: the file as it would be behind a crash -/
set_option maxRecDepth 100000
def poolHas (S : va_W) (hs ch sd : Nat) : Prop := (hs, hsO ch sd) ∈ S
theorem okAll.take {n : Nat} : ∀ {as : List Act3} {F : Fl}, okAll F as → okAll F (as.take n) := by
  induction n with
  | zero => intro as F h; simp [okAll]
  | succ n ih =>
    intro as F h
    cases as with
    | nil => exact h
    | cons a as => exact ⟨h.1, ih h.2⟩
theorem okAll.inv : ∀ {as : List Act3} {F : Fl}, InvF F → okAll F as → InvF (doAll F as) := by
  intro as
  induction as with
  | nil => intro F h _; exact h
  | cons a as ih => intro F h h2; exact ih (h2.1.inv h).1 h2.2
theorem ctX1_recovered {l : Launch} {g : jG} (hG : GS l g) (bg : va_W) {x f k lg cl io mk hs : Nat} {n : N7} {F : Fl} {ess : List (List Nat)} {xs : List Nat} {as : List Act3} (hx : (x, dkO n f k lg cl io mk) ∈ bg) (hR : stR g bg hs k (fC F, fLo F, fUp F, fSp F, fMg F) (lvl (fB F).length) (ptr (fB F).length) (rws (fB F)) (fB F) ess) (hE : entB bg ess (fB F)) {wp : va_W} (hh : (hs, hsO (fCh F) (fSd F)) ∈ wp) (hwp : ∀ c ∈ wp, c ∈ bg) (hI9 : InvF F) (hA : ALR g bg lg xs) (hxs : xs.length = as.length) (hac : ∀ (i a : Nat) (b : Act3), xs[i]? = some a → as[i]? = some b → (a, acO b) ∈ bg) (hfl : n.2.2.2.2.2.2 ≤ as.length) (h60 : as.length ≤ 60) (hok : okAll F (as.take n.2.2.2.2.2.2)) : KX1_recovered l g 14 (uCopy (fB F) + uAs F (as.take n.2.2.2.2.2.2)) [.ref x] bg [] (fun v wd => ∃ q2 h2 ess2 w we wh, v = some (.ref q2) ∧ wd = [w, we, wh] ∧ isF g h2 q2 (doAll F (as.take n.2.2.2.2.2.2)) ess2 w ∧ entB we ess2 (fB (doAll F (as.take n.2.2.2.2.2.2))) ∧ ((h2, hsO (fCh (doAll F (as.take n.2.2.2.2.2.2))) (fSd (doAll F (as.take n.2.2.2.2.2.2)))) ∈ wp ∨ (h2, hsO (fCh (doAll F (as.take n.2.2.2.2.2.2))) (fSd (doAll F (as.take n.2.2.2.2.2.2)))) ∈ wh)) := by
  obtain ⟨bl, tk, qs, r1, r2⟩ := id hR
  obtain ⟨m5, b5, hz5, -⟩ := id hA
  generalize hfl9 : n.2.2.2.2.2.2 = fl at hfl hok ⊢
  have htl : (as.take fl).length = fl := by rw [List.length_take]; omega
  refine Ctr.of [some (.ref x), none, none] hG (by decide +kernel) rfl (Nat.le_of_ble_eq_true rfl) (fun Y hl hN0 o r hI => ?_)
  subst hl
  have hN : ∀ i, i < 3 → i < yN Y := fun i h => by rw [hN0]; exact h
  refine j_ald_n o dX1_recovered_0 rfl rfl (q := 1) rfl ?_
  refine j_gf o dX1_recovered_1 (jb hx) kcX1 8 (Nat.le_of_ble_eq_true rfl) q361 rfl (q := 4) rfl ?_
  refine j_callV0 o (ctX2_copy hG _ (hR.mono (fun _ => jmr)) (hE.mono (fun _ => jmr)) (jmr (hwp _ hh)) hI9.1) dX1_recovered_4 q410 wdX2_copy mdX2_copy (jb r1) (by rfl) (by rfl) rfl (Nat.le_of_ble_eq_true rfl) (Nat.le_of_ble_eq_true rfl) (by omega) (Nat.le_of_ble_eq_true rfl) (q := 7) rfl (fun v wd hpost => ?_)
  obtain ⟨q2, ess2, w, we, rfl, rfl, hS, hE2⟩ := hpost
  dsimp only [List.cons_append, List.nil_append, Option.toList]
  refine j_ast1 o dX1_recovered_7 rfl rfl (hN 1 (Nat.le_of_ble_eq_true rfl)) (q := 8) rfl ?_
  refine j_iconst o (nI 0) dX1_recovered_8 (by decide) (q := 9) rfl ?_
  refine j_ist2 o dX1_recovered_9 rfl (hN 2 (Nat.le_of_ble_eq_true rfl)) (q := 10) rfl ?_
  have loop : ∀ (d i : Nat) (F2 : Fl) (h2 : Nat) (ess2 : List (List Nat)) (w we wh : va_W) (u9 : Nat), i + d = fl → InvF F2 → okAll F2 ((as.take fl).drop i) → doAll F2 ((as.take fl).drop i) = doAll F (as.take fl) → isF g h2 q2 F2 ess2 w → entB we ess2 (fB F2) → ((h2, hsO (fCh F2) (fSd F2)) ∈ wp ∨ (h2, hsO (fCh F2) (fSd F2)) ∈ wh) → u9 + uAs F2 ((as.take fl).drop i) ≤ uCopy (fB F) + uAs F (as.take fl) → J g Y [w, we, wh] u9 10 [some (.ref x), some (.ref q2), some (.int (nI i))] [] := by
    intro d
    induction d with
    | zero =>
      intro i F2 h2 ess2 w we wh u9 d1 d2 d3 d4 d5 d6 d7 d8
      rw [List.drop_of_length_le (by omega)] at d4
      have d4 : F2 = _ := d4
      rw [← d4] at r
      refine j_ild_n o dX1_recovered_10 rfl (q := 11) rfl ?_
      refine j_ald_n o dX1_recovered_11 rfl rfl (q := 12) rfl ?_
      refine j_gf o dX1_recovered_12 (jb hx) kcX1 6 (Nat.le_of_ble_eq_true rfl) q359 rfl (q := 15) rfl ?_
      refine j_topi o (nI fl) ((by rw [hfl9])) ?_
      refine j_icgeT o 41 dX1_recovered_15 (by decide) (nI_le (by omega) (by omega)) ?_
      refine j_ald_n o dX1_recovered_41 rfl rfl (q := 42) rfl ?_
      exact j_aret o r dX1_recovered_42 (by first | exact Or.inl ⟨_, rfl⟩ | exact Or.inr ⟨_, rfl⟩) rfl [_, _, _] _ rfl (⟨q2, h2, ess2, w, we, wh, rfl, rfl, d5, d6, d7⟩) (by omega)
    | succ d ih =>
      intro i F2 h2 ess2 w we wh u9 d1 d2 d3 d4 d5 d6 d7 d8
      obtain ⟨b9, hb9⟩ := get_ex (xs := as) (i := i) (by omega)
      obtain ⟨a9, ha9⟩ := get_ex (xs := xs) (i := i) (by omega)
      have hcell := hac i a9 b9 ha9 hb9
      have hd : (as.take fl).drop i = b9 :: (as.take fl).drop (i + 1) := (by
        rw [List.drop_eq_getElem_cons (by omega)]
        congr 1
        have : (as.take fl)[i]? = some b9 := by rw [List.getElem?_take, if_pos (by omega)]; exact hb9
        rw [List.getElem?_eq_getElem (by omega)] at this
        exact Option.some.inj this)
      rw [hd] at d3 d4 d8
      obtain ⟨ok1, ok2⟩ := d3
      have d8 : u9 + (uA F2 b9 + uAs (doA F2 b9) ((as.take fl).drop (i + 1))) ≤ uCopy (fB F) + uAs F (as.take fl) := d8
      have hinv := (ok1.inv d2).1
      refine j_ild_n o dX1_recovered_10 rfl (q := 11) rfl ?_
      refine j_ald_n o dX1_recovered_11 rfl rfl (q := 12) rfl ?_
      refine j_gf o dX1_recovered_12 (jb hx) kcX1 6 (Nat.le_of_ble_eq_true rfl) q359 rfl (q := 15) rfl ?_
      refine j_topi o (nI fl) ((by rw [hfl9])) ?_
      refine j_icgeF o (t := 41) dX1_recovered_15 (by decide) (q := 18) rfl (nI_ge (by omega) (by omega)) ?_
      refine j_ald_n o dX1_recovered_18 rfl rfl (q := 19) rfl ?_
      refine j_gf o dX1_recovered_19 (jb hx) kcX1 9 (Nat.le_of_ble_eq_true rfl) q362 rfl (q := 22) rfl ?_
      refine j_ild_n o dX1_recovered_22 rfl (q := 23) rfl ?_
      refine j_callV0 o (ctJ2_get hG _ (hA.mono (fun _ => jmr)) ha9) dX1_recovered_23 q466 wdJ2_get mdJ2_get (jb hz5) (by rfl) (by rfl) rfl (Nat.le_of_ble_eq_true rfl) (Nat.le_of_ble_eq_true rfl) (by omega) (Nat.le_of_ble_eq_true rfl) (q := 26) rfl (fun v wd hpost => ?_)
      obtain ⟨rfl, rfl⟩ := hpost
      dsimp only [List.cons_append, List.nil_append, Option.toList]
      have ih := ih (i + 1) (doA F2 b9)
      obtain ⟨kk, x9, y9⟩ := b9
      rcases ok1 with ⟨h1, h3, h4, h5⟩ | ⟨h1, h3, h4⟩ | ⟨h1, h3, h4⟩ | ⟨h1, h3, h4, h5⟩
      · dsimp only at h1 h3 h4 h5
        subst h1
        have eu : uA F2 (0, x9, y9) = uPut F2 x9 y9 := rfl
        refine j_castY o (r := (RX13, TX13, 2)) dX1_recovered_26 q467 q592 (jb hcell) (ci := 13) rfl (q := 29) rfl ?_
        refine j_ald_n o dX1_recovered_29 rfl rfl (q := 30) rfl ?_
        refine j_callF2 o (ctX13_on hG _ (k := x9) (v := y9) (jmr hcell) d5 d6 (d7.elim (fun h => jmr (hwp _ h)) (fun h => jwl 0 rfl h)) d2 h3 h4 h5) dX1_recovered_30 q469 wfX13_on (show (parseMethodDescriptor "(LSplitpointer$Store;)V").map (fun d => d.parameters.length) = some 1 from by decide +kernel) (jb hcell) (by rfl) (by rfl) rfl (Nat.le_of_ble_eq_true rfl) (Nat.le_of_ble_eq_true rfl) (by omega) (Nat.le_of_ble_eq_true rfl) (q := 35) rfl (fun v wd hpost => ?_)
        obtain ⟨rfl, ess3, w3, we3, rfl, hS3, hE3⟩ := hpost
        dsimp only [List.cons_append, List.nil_append, Option.toList]
        refine j_inc2 o (nI (i + 1)) dX1_recovered_35 (by first | exact nI_1 _ | exact pk_m1 _ | rfl) rfl (q := 38) rfl ?_
        refine j_goto o 10 dX1_recovered_38 (by decide) ?_
        exact ih h2 ess3 w3 we3 wh _ (by omega) hinv ok2 d4 hS3 hE3 (by show (h2, hsO (fPut F2 x9 y9).2.1.1 (fPut F2 x9 y9).2.1.2) ∈ wp ∨ (h2, hsO (fPut F2 x9 y9).2.1.1 (fPut F2 x9 y9).2.1.2) ∈ wh; rw [(fPut_inv d2 h3 h4 h5).2.2.1]; exact d7) (by have e : uA F2 (0, x9, y9) = uPut F2 x9 y9 := rfl; omega)
      · dsimp only at h1 h3 h4
        subst h1
        obtain ⟨i9, r9, g1, g2⟩ := some_first h4
        have eu : uA F2 (1, x9, y9) = uDrop F2 x9 := rfl
        refine j_castY o (r := (RX14, TX14, 1)) dX1_recovered_26 q467 q478 (jb hcell) (ci := 14) rfl (q := 29) rfl ?_
        refine j_ald_n o dX1_recovered_29 rfl rfl (q := 30) rfl ?_
        refine j_callF1 o (ctX14_on hG _ (k := x9) (jmr hcell) d5 (d6.mono (fun _ hc => jwl 0 rfl hc)) (d7.elim (fun h => jmr (hwp _ h)) (fun h => jwl 1 rfl h)) d2 h3 g1 g2) dX1_recovered_30 q469 wfX14_on (show (parseMethodDescriptor "(LSplitpointer$Store;)V").map (fun d => d.parameters.length) = some 1 from by decide +kernel) (jb hcell) (by rfl) (by rfl) rfl (Nat.le_of_ble_eq_true rfl) (Nat.le_of_ble_eq_true rfl) (by omega) (Nat.le_of_ble_eq_true rfl) (q := 35) rfl (fun v wd hpost => ?_)
        obtain ⟨rfl, ess3, w3, rfl, hS3, hE3⟩ := hpost
        dsimp only [List.cons_append, List.nil_append, Option.toList]
        refine j_inc2 o (nI (i + 1)) dX1_recovered_35 (by first | exact nI_1 _ | exact pk_m1 _ | rfl) rfl (q := 38) rfl ?_
        refine j_goto o 10 dX1_recovered_38 (by decide) ?_
        exact ih h2 ess3 w3 we wh _ (by omega) hinv ok2 d4 hS3 (hE3 we d6) d7 (by have e : uA F2 (1, x9, y9) = uDrop F2 x9 := rfl; omega)
      · dsimp only at h1 h3 h4
        subst h1
        have eu : uA F2 (2, x9, y9) = uRe F2 x9 y9 := rfl
        refine j_castY o (r := (RX15, TX15, 2)) dX1_recovered_26 q467 q611 (jb hcell) (ci := 15) rfl (q := 29) rfl ?_
        refine j_ald_n o dX1_recovered_29 rfl rfl (q := 30) rfl ?_
        refine j_callF2 o (ctX15_on hG _ (ch2 := x9) (sd2 := y9) (jmr hcell) d5 d6 d2 h3 h4) dX1_recovered_30 q469 wfX15_on (show (parseMethodDescriptor "(LSplitpointer$Store;)V").map (fun d => d.parameters.length) = some 1 from by decide +kernel) (jb hcell) (by rfl) (by rfl) rfl (Nat.le_of_ble_eq_true rfl) (Nat.le_of_ble_eq_true rfl) (by omega) (Nat.le_of_ble_eq_true rfl) (q := 35) rfl (fun v wd hpost => ?_)
        obtain ⟨rfl, h9, ess3, w3, we3, rfl, hS3, hE3⟩ := hpost
        dsimp only [List.cons_append, List.nil_append, Option.toList]
        refine j_inc2 o (nI (i + 1)) dX1_recovered_35 (by first | exact nI_1 _ | exact pk_m1 _ | rfl) rfl (q := 38) rfl ?_
        refine j_goto o 10 dX1_recovered_38 (by decide) ?_
        refine j_mv3 ?_
        refine j_mv3 ?_
        refine j_mgN [_, _] (fun wh2 hwh2 => ?_)
        first | dsimp only [List.cons_append, List.nil_append] | skip
        refine j_mv1 ?_
        refine j_mv2 ?_
        refine j_mv1 ?_
        exact ih h9 ess3 w3 we3 wh2 _ (by omega) hinv ok2 d4 hS3 hE3 (Or.inr (hwh2.mem_iff.mpr (by show (h9, hsO (fRe F2 x9 y9).2.1.1 (fRe F2 x9 y9).2.1.2) ∈ _; rw [(fRe_inv d2 h3 h4).2.2.2]; simp [jflat]))) (by have e : uA F2 (2, x9, y9) = uRe F2 x9 y9 := rfl; omega)
      · dsimp only at h1 h3 h4 h5
        subst h1
        refine j_castY o (r := (RX12, TX12, 2)) dX1_recovered_26 q467 q472 (jb hcell) (ci := 12) rfl (q := 29) rfl ?_
        refine j_ald_n o dX1_recovered_29 rfl rfl (q := 30) rfl ?_
        refine j_callF1 o (ctX12_on hG _ (x := x9) (y := y9) (jmr hcell) d5) dX1_recovered_30 q469 wfX12_on (show (parseMethodDescriptor "(LSplitpointer$Store;)V").map (fun d => d.parameters.length) = some 1 from by decide +kernel) (jb hcell) (by rfl) (by rfl) rfl (Nat.le_of_ble_eq_true rfl) (Nat.le_of_ble_eq_true rfl) (by omega) (Nat.le_of_ble_eq_true rfl) (q := 35) rfl (fun v wd hpost => ?_)
        obtain ⟨rfl, w3, rfl, hS3⟩ := hpost
        dsimp only [List.cons_append, List.nil_append, Option.toList]
        refine j_inc2 o (nI (i + 1)) dX1_recovered_35 (by first | exact nI_1 _ | exact pk_m1 _ | rfl) rfl (q := 38) rfl ?_
        refine j_goto o 10 dX1_recovered_38 (by decide) ?_
        exact ih h2 ess2 w3 we wh _ (by omega) hinv ok2 d4 hS3 d6 d7 (by omega)
  refine j_pm [w, we, []] (by simp) ?_
  exact loop fl 0 F hs ess2 w we [] _ (by omega) hI9 (by rw [List.drop_zero]; exact hok) (by rw [List.drop_zero]) hS hE2 (Or.inl hh) (by rw [List.drop_zero]; omega)
