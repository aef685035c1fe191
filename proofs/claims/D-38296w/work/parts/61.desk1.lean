/-! THE DESK, first: its cell, log, replays -/
set_option maxRecDepth 100000
/-- group, reads, falses, forwards, crashes, refused, flushed -/
abbrev N7 : Type := Nat × Nat × Nat × Nat × Nat × Nat × Nat
abbrev dkO (n : N7) (f k lg cl io mk : Nat) : va_E := eO 1 [.int (nI n.1), .int (nI n.2.1), .int (nI n.2.2.1), .int (nI n.2.2.2.1), .int (nI n.2.2.2.2.1), .int (nI n.2.2.2.2.2.1), .int (nI n.2.2.2.2.2.2), .ref f, .ref k, .ref lg, .ref cl, .ref io, .ref mk]
/-- an act done on a file -/
def doA (F : Fl) (a : Act3) : Fl := if a.1 = 0 then fPut F a.2.1 a.2.2 else if a.1 = 1 then fDrop F a.2.1 else if a.1 = 2 then fRe F a.2.1 a.2.2 else ((fC F, a.2.1, a.2.2), F.2.1, F.2.2.1, F.2.2.2)
/-- an act that can be done there -/
def okA (F : Fl) (a : Act3) : Prop := (a.1 = 0 ∧ a.2.1 < 10000 ∧ a.2.2 < 10000 ∧ (fGet (fCh F) (fSd F) (fB F) a.2.1 = none → rws (fB F) < 60)) ∨ (a.1 = 1 ∧ a.2.1 < 10000 ∧ (fGet (fCh F) (fSd F) (fB F) a.2.1).isSome = true) ∨ (a.1 = 2 ∧ a.2.1 < 1024 ∧ a.2.2 < 10) ∨ (a.1 = 3 ∧ a.2.1 ≤ 40 ∧ 50 ≤ a.2.2 ∧ a.2.2 ≤ 100)
def uA (F : Fl) (a : Act3) : Nat := if a.1 = 0 then uPut F a.2.1 a.2.2 else if a.1 = 1 then uDrop F a.2.1 else if a.1 = 2 then uRe F a.2.1 a.2.2 else 0
def doAll (F : Fl) (as : List Act3) : Fl := as.foldl doA F
def okAll : Fl → List Act3 → Prop
  | _, [] => True
  | F, a :: as => okA F a ∧ okAll (doA F a) as
def uAs : Fl → List Act3 → Nat
  | _, [] => 0
  | F, a :: as => uA F a + uAs (doA F a) as
theorem some_first {ch sd key : Nat} {B : List Bkt} (h : (fGet ch sd B key).isSome = true) : ∃ i r, jFst ((bAt B (bOf ch sd B key)).1.map (·.1)) key i ∧ (bAt B (bOf ch sd B key)).1[i]? = some r := by
  have hex : ∃ r ∈ (bAt B (bOf ch sd B key)).1, r.1 = key := by
    unfold fGet at h
    rw [Option.isSome_map, List.find?_isSome] at h
    obtain ⟨r, h1, h2⟩ := h
    exact ⟨r, h1, by simpa using h2⟩
  generalize (bAt B (bOf ch sd B key)).1 = rs at hex
  induction rs with
  | nil => obtain ⟨r, h1, -⟩ := hex; simp at h1
  | cons x rs ih =>
    by_cases hx : x.1 = key
    · exact ⟨0, x, ⟨by simp [hx], fun j hj => by omega⟩, rfl⟩
    · obtain ⟨r, h1, h2⟩ := hex
      obtain ⟨i, r2, ⟨a1, a2⟩, a3⟩ := ih ⟨r, by
        rcases List.mem_cons.mp h1 with rfl | h3
        · exact absurd h2 hx
        · exact h3, h2⟩
      refine ⟨i + 1, r2, ⟨by simpa using a1, fun j hj => ?_⟩, by simpa using a3⟩
      cases j with
      | zero => simpa using hx
      | succ j => simpa using a2 j (by omega)
theorem okA.inv {F : Fl} {a : Act3} (h : InvF F) (ha : okA F a) : InvF (doA F a) ∧ (doA F a).1.1 = F.1.1 := by
  obtain ⟨k, x, y⟩ := a
  rcases ha with ⟨h1, h2, h3, h4⟩ | ⟨h1, h2, h3⟩ | ⟨h1, h2, h3⟩ | ⟨h1, h2, h3, h4⟩
  · subst h1
    obtain ⟨a1, a2, -⟩ := fPut_inv h h2 h3 h4
    exact ⟨a1, congrArg Prod.fst a2⟩
  · dsimp only at h1 h2 h3
    subst h1
    obtain ⟨i, r, a1, a2⟩ := some_first h3
    have hl := get_lt a2
    obtain ⟨x9, hx9⟩ := get_ex (xs := (bAt (fB F) (bOf (fCh F) (fSd F) (fB F) x)).1) (i := (bAt (fB F) (bOf (fCh F) (fSd F) (fB F) x)).1.length - 1) (by omega)
    exact ⟨h.drop a1 a2 hx9, rfl⟩
  · subst h1
    obtain ⟨a1, -, a2, -⟩ := fRe_inv h h2 h3
    exact ⟨a1, congrArg Prod.fst a2⟩
  · subst h1
    obtain ⟨b1, b2, b3, -⟩ := h
    exact ⟨⟨b1, b2, b3, h2, h3, h4⟩, rfl⟩
theorem ctX1_closeAll {l : Launch} {g : jG} (hG : GS l g) (bg : va_W) {x f k lg cl io mk : Nat} {n : N7} {h : Nat → Int32} (hx : (x, dkO n f k lg cl io mk) ∈ bg) : KX1_closeAll l g 1 0 [.ref x] bg [[(io, eA g 1 3 h)]] (fun v wd => v = none ∧ wd = [[(io, eA g 1 3 (fun _ => 0))]]) := by
  refine Ctr.of [some (.ref x), none] hG (by decide +kernel) rfl (Nat.le_of_ble_eq_true rfl) (fun Y hl hN0 o r hI => ?_)
  subst hl
  have hN : ∀ i, i < 2 → i < yN Y := fun i h => by rw [hN0]; exact h
  have loop : ∀ d k, k + d = 3 → J g Y [[(io, eA g 1 3 (fun i => if i < k then 0 else h i))]] 0 2 [some (.ref x), some (.int (nI k))] [] := by
    intro d
    induction d with
    | zero =>
      intro k hk9
      have hk9 : k = 3 := hk9
      subst hk9
      refine j_ild_n o dX1_closeAll_2 rfl (q := 3) rfl ?_
      refine j_iconst o (nI 3) dX1_closeAll_3 (by decide) (q := 4) rfl ?_
      refine j_icgeT o 20 dX1_closeAll_4 (by decide) (by decide) ?_
      refine j_fnA (k9 := 0) (j := 0) (f2 := fun _ => 0) rfl rfl (fun i hi => by rw [if_pos hi]) ?_
      dsimp only [List.set]
      exact j_vret o r dX1_closeAll_20 [_] _ rfl (⟨rfl, rfl⟩) (by omega)
    | succ d ih =>
      intro k hk9
      refine j_ild_n o dX1_closeAll_2 rfl (q := 3) rfl ?_
      refine j_iconst o (nI 3) dX1_closeAll_3 (by decide) (q := 4) rfl ?_
      refine j_icgeF o (t := 20) dX1_closeAll_4 (by decide) (q := 7) rfl (nI_ge (a := k) (b := 3) (by omega) (by omega)) ?_
      refine j_ald_n o dX1_closeAll_7 rfl rfl (q := 8) rfl ?_
      refine j_gf o dX1_closeAll_8 (jb hx) kcX1 11 (Nat.le_of_ble_eq_true rfl) q364 rfl (q := 11) rfl ?_
      refine j_ild_n o dX1_closeAll_11 rfl (q := 12) rfl ?_
      refine j_iconst o (nI 0) dX1_closeAll_12 (by decide) (q := 13) rfl ?_
      refine j_zast o dX1_closeAll_13 0 0 rfl rfl (by omega) (by omega) rfl (q := 14) rfl ?_
      dsimp only [List.set]
      refine j_fnA (k9 := 0) (j := 0) (f2 := fun i => if i < k + 1 then 0 else h i) rfl rfl (fun i hi => ?_) ?_
      · show (if i = k then _ else if i < k then _ else _) = _
        by_cases hik : i = k
        · rw [if_pos hik, if_pos (by omega)]
          rfl
        · rw [if_neg hik]
          by_cases hik2 : i < k
          · rw [if_pos hik2, if_pos (by omega)]
          · rw [if_neg hik2, if_neg (by omega)]
      dsimp only [List.set]
      refine j_inc1 o (nI (k + 1)) dX1_closeAll_14 (by first | exact nI_1 _ | exact pk_m1 _ | rfl) rfl (q := 17) rfl ?_
      refine j_goto o 2 dX1_closeAll_17 (by decide) ?_
      exact ih (k + 1) (by omega)
  refine j_iconst o (nI 0) dX1_closeAll_0 (by decide) (q := 1) rfl ?_
  refine j_ist1 o dX1_closeAll_1 rfl (hN 1 (Nat.le_of_ble_eq_true rfl)) (q := 2) rfl ?_
  have h0 := loop 3 0 rfl
  have e0 : (fun i => if i < 0 then (0 : Int32) else h i) = h := by
    funext i
    rw [if_neg (by omega)]
  rw [e0] at h0
  exact h0
theorem ctX1_keep {l : Launch} {g : jG} (hG : GS l g) (bg : va_W) {x f k lg cl io mk hs : Nat} {n : N7} {F : Fl} {ess : List (List Nat)} {xs : List Nat} {wl : va_W} (hR : stR g bg hs f (fC F, fLo F, fUp F, fSp F, fMg F) (lvl (fB F).length) (ptr (fB F).length) (rws (fB F)) (fB F) ess) (hE : entB bg ess (fB F)) (hh : (hs, hsO (fCh F) (fSd F)) ∈ bg) (hI9 : InvF F) (hA : AL g lg xs wl) : KX1_keep l g 12 (uCopy (fB F)) [.ref x] bg [[(x, dkO n f k lg cl io mk)], wl] (fun v wd => v = none ∧ ∃ k2 ess2 w we wl2, wd = [[(x, dkO (n.1, n.2.1, n.2.2.1, n.2.2.2.1, n.2.2.2.2.1, n.2.2.2.2.2.1, 0) f k2 lg cl io mk)], wl2, w, we] ∧ AL g lg [] wl2 ∧ isF g hs k2 F ess2 w ∧ entB we ess2 (fB F)) := by
  obtain ⟨bl, tk, qs, r1, r2⟩ := id hR
  refine Ctr.of [some (.ref x)] hG (by decide +kernel) rfl (Nat.le_of_ble_eq_true rfl) (fun Y hl hN0 o r hI => ?_)
  subst hl
  have hN : ∀ i, i < 1 → i < yN Y := fun i h => by rw [hN0]; exact h
  refine j_ald_n o dX1_keep_0 rfl rfl (q := 1) rfl ?_
  refine j_ald_n o dX1_keep_1 rfl rfl (q := 2) rfl ?_
  refine j_gf o dX1_keep_2 (jw 0 0 rfl rfl) kcX1 7 (Nat.le_of_ble_eq_true rfl) q360 rfl (q := 5) rfl ?_
  refine j_callV0 o (ctX2_copy hG _ (hR.mono (fun _ => jmr)) (hE.mono (fun _ => jmr)) (jmr hh) hI9.1) dX1_keep_5 q410 wdX2_copy mdX2_copy (jb r1) (by rfl) (by rfl) rfl (Nat.le_of_ble_eq_true rfl) (Nat.le_of_ble_eq_true rfl) (by omega) (Nat.le_of_ble_eq_true rfl) (q := 8) rfl (fun v wd hpost => ?_)
  obtain ⟨k2, ess2, w, we, rfl, rfl, hS, hE2⟩ := hpost
  dsimp only [List.cons_append, List.nil_append, Option.toList]
  refine j_pf o dX1_keep_8 2 0 rfl rfl kcX1 8 (Nat.le_of_ble_eq_true rfl) q361 rfl rfl rfl (Nat.le_of_ble_eq_true rfl) (q := 11) rfl ?_
  dsimp only [List.set]
  refine j_ald_n o dX1_keep_11 rfl rfl (q := 12) rfl ?_
  refine j_gf o dX1_keep_12 (jw 2 0 rfl rfl) kcX1 9 (Nat.le_of_ble_eq_true rfl) q362 rfl (q := 15) rfl ?_
  refine j_mv3 ?_
  obtain ⟨m3, b3, hA3⟩ := id hA
  obtain ⟨t3, rfl, -⟩ := hA3.head
  refine j_callV1 o (ctJ2_clear hG _ hA) dX1_keep_15 q457 wdJ2_clear mdJ2_clear (jw 0 0 rfl rfl) (by rfl) (by rfl) rfl (Nat.le_of_ble_eq_true rfl) (Nat.le_of_ble_eq_true rfl) (by omega) (Nat.le_of_ble_eq_true rfl) (q := 18) rfl (fun v wd hpost => ?_)
  obtain ⟨rfl, wl2, rfl, hA2⟩ := hpost
  dsimp only [List.cons_append, List.nil_append, Option.toList]
  refine j_ald_n o dX1_keep_18 rfl rfl (q := 19) rfl ?_
  refine j_iconst o (nI 0) dX1_keep_19 (by decide) (q := 20) rfl ?_
  refine j_pf o dX1_keep_20 3 0 rfl rfl kcX1 6 (Nat.le_of_ble_eq_true rfl) q359 rfl rfl rfl (Nat.le_of_ble_eq_true rfl) (q := 23) rfl ?_
  dsimp only [List.set]
  refine j_mv3 ?_
  exact j_vret o r dX1_keep_23 [_, _, _, _] _ rfl (⟨rfl, k2, ess2, w, we, wl2, rfl, hA2, hS, hE2⟩) (by omega)
theorem ctX1_makeRoom {l : Launch} {g : jG} (hG : GS l g) (bg : va_W) {x f k lg cl io mk hs : Nat} {n : N7} {F : Fl} {ess : List (List Nat)} {xs : List Nat} {wl : va_W} (hR : stR g bg hs f (fC F, fLo F, fUp F, fSp F, fMg F) (lvl (fB F).length) (ptr (fB F).length) (rws (fB F)) (fB F) ess) (hE : entB bg ess (fB F)) (hh : (hs, hsO (fCh F) (fSd F)) ∈ bg) (hI9 : InvF F) (hA : AL g lg xs wl) (hx9 : xs.length ≤ 60) : KX1_makeRoom l g 13 (if xs.length = 60 then uCopy (fB F) else 0) [.ref x] bg [[(x, dkO n f k lg cl io mk)], wl] (fun v wd => v = none ∧ ((xs.length ≠ 60 ∧ wd = [[(x, dkO n f k lg cl io mk)], wl]) ∨ (xs.length = 60 ∧ ∃ k2 ess2 w we wl2, wd = [[(x, dkO (n.1, n.2.1, n.2.2.1, n.2.2.2.1, n.2.2.2.2.1, n.2.2.2.2.2.1, 0) f k2 lg cl io mk)], wl2, w, we] ∧ AL g lg [] wl2 ∧ isF g hs k2 F ess2 w ∧ entB we ess2 (fB F)))) := by
  obtain ⟨m5, b5, hz5, -⟩ := hA.r (S := wl) (fun _ h => h)
  refine Ctr.of [some (.ref x)] hG (by decide +kernel) rfl (Nat.le_of_ble_eq_true rfl) (fun Y hl hN0 o r hI => ?_)
  subst hl
  have hN : ∀ i, i < 1 → i < yN Y := fun i h => by rw [hN0]; exact h
  refine j_ald_n o dX1_makeRoom_0 rfl rfl (q := 1) rfl ?_
  refine j_gf o dX1_makeRoom_1 (jw 0 0 rfl rfl) kcX1 9 (Nat.le_of_ble_eq_true rfl) q362 rfl (q := 4) rfl ?_
  refine j_callV0 o (ctJ2_size hG _ (jwl 1 rfl hz5)) dX1_makeRoom_4 q398 wdJ2_size mdJ2_size (jwm 1 rfl hz5) (by rfl) (by rfl) rfl (Nat.le_of_ble_eq_true rfl) (Nat.le_of_ble_eq_true rfl) (by omega) (Nat.le_of_ble_eq_true rfl) (q := 7) rfl (fun v wd hpost => ?_)
  obtain ⟨rfl, rfl⟩ := hpost
  dsimp only [List.cons_append, List.nil_append, Option.toList]
  refine j_bipush o (nI 60) dX1_makeRoom_7 (by decide) (q := 9) rfl ?_
  refine j_icne o 16 dX1_makeRoom_9 (by decide) (q := 12) rfl (fun c => ?_) (fun c => ?_)
  · have c : ¬ xs.length = 60 := fun e => c (by rw [e])
    exact j_vret o r dX1_makeRoom_16 [_, _] _ rfl (⟨rfl, Or.inl ⟨c, rfl⟩⟩) (by omega)
  · have c : xs.length = 60 := (nI_eq (by omega) (by omega)).mp c
    refine j_ald_n o dX1_makeRoom_12 rfl rfl (q := 13) rfl ?_
    refine j_callV2 o (ctX1_keep hG _ (hR.mono (fun _ => jmr)) (hE.mono (fun _ => jmr)) (jmr hh) hI9 hA) dX1_makeRoom_13 q406 wdX1_keep mdX1_keep (jw 0 0 rfl rfl) (by rfl) (by rfl) rfl (Nat.le_of_ble_eq_true rfl) (Nat.le_of_ble_eq_true rfl) (by rw [if_pos c]; omega) (Nat.le_of_ble_eq_true rfl) (q := 16) rfl (fun v wd hpost => ?_)
    obtain ⟨rfl, k2, ess2, w, we, wl2, rfl, q1, q2, q3⟩ := hpost
    dsimp only [List.cons_append, List.nil_append, Option.toList]
    exact j_vret o r dX1_makeRoom_16 [_, _, _, _] _ rfl (⟨rfl, Or.inr ⟨c, k2, ess2, w, we, wl2, rfl, q1, q2, q3⟩⟩) (by rw [if_pos c]; omega)
theorem ctX1_log {l : Launch} {g : jG} (hG : GS l g) (bg : va_W) {x f k lg cl io mk a : Nat} {n : N7} {xs : List Nat} {wl : va_W} (hA : AL g lg xs wl) (hel : ∀ y ∈ xs, jElB g bg y) (ha : jElB g bg a) (hx9 : xs.length < 60) (hfl : n.2.2.2.2.2.2 ≤ xs.length) (hgr : n.1 < 2 ^ 10) : KX1_log l g 8 (uAdd xs.length) [.ref x, .ref a] bg [[(x, dkO n f k lg cl io mk)], wl] (fun v wd => v = none ∧ ∃ wl2, wd = [[(x, dkO (n.1, n.2.1, n.2.2.1, n.2.2.2.1, n.2.2.2.2.1, n.2.2.2.2.2.1, if n.1 ≤ xs.length + 1 - n.2.2.2.2.2.2 then xs.length + 1 else n.2.2.2.2.2.2) f k lg cl io mk)], wl2] ∧ AL g lg (xs ++ [a]) wl2) := by
  refine Ctr.of [some (.ref x), some (.ref a)] hG (by decide +kernel) rfl (Nat.le_of_ble_eq_true rfl) (fun Y hl hN0 o r hI => ?_)
  subst hl
  have hN : ∀ i, i < 2 → i < yN Y := fun i h => by rw [hN0]; exact h
  refine j_ald_n o dX1_log_0 rfl rfl (q := 1) rfl ?_
  refine j_gf o dX1_log_1 (jw 0 0 rfl rfl) kcX1 9 (Nat.le_of_ble_eq_true rfl) q362 rfl (q := 4) rfl ?_
  refine j_ald_n o dX1_log_4 rfl rfl (q := 5) rfl ?_
  refine j_mv1 ?_
  obtain ⟨m3, b3, hA3⟩ := id hA
  obtain ⟨t3, rfl, -⟩ := hA3.head
  refine j_callV1 o (ctJ2_add hG _ hA (jElB_l hel) (ha.mono (fun _ => jmr)) (by omega)) dX1_log_5 q1106 wdJ2_add mdJ2_add (jw 0 0 rfl rfl) (by rfl) (by rfl) rfl (Nat.le_of_ble_eq_true rfl) (Nat.le_of_ble_eq_true rfl) (by omega) (Nat.le_of_ble_eq_true rfl) (q := 8) rfl (fun v wd hpost => ?_)
  obtain ⟨rfl, wl2, rfl, hA2⟩ := hpost
  dsimp only [List.cons_append, List.nil_append, Option.toList]
  obtain ⟨m5, b5, hz5, -⟩ := hA2.r (S := wl2) (fun _ h => h)
  have hl : (xs ++ [a]).length = xs.length + 1 := by simp
  refine j_pop o dX1_log_8 rfl (q := 9) rfl ?_
  refine j_ald_n o dX1_log_9 rfl rfl (q := 10) rfl ?_
  refine j_gf o dX1_log_10 (jw 1 0 rfl rfl) kcX1 9 (Nat.le_of_ble_eq_true rfl) q362 rfl (q := 13) rfl ?_
  refine j_callV0 o (ctJ2_size hG _ (jwl 0 rfl hz5)) dX1_log_13 q398 wdJ2_size mdJ2_size (jwm 0 rfl hz5) (by rfl) (by rfl) rfl (Nat.le_of_ble_eq_true rfl) (Nat.le_of_ble_eq_true rfl) (by omega) (Nat.le_of_ble_eq_true rfl) (q := 16) rfl (fun v wd hpost => ?_)
  obtain ⟨rfl, rfl⟩ := hpost
  dsimp only [List.cons_append, List.nil_append, Option.toList]
  rw [hl]
  refine j_ald_n o dX1_log_16 rfl rfl (q := 17) rfl ?_
  refine j_gf o dX1_log_17 (jw 1 0 rfl rfl) kcX1 6 (Nat.le_of_ble_eq_true rfl) q359 rfl (q := 20) rfl ?_
  refine j_isub o dX1_log_20 (q := 21) rfl ?_
  refine j_topi o (nI (xs.length + 1 - n.2.2.2.2.2.2)) (pk_sub (by omega)) ?_
  refine j_ald_n o dX1_log_21 rfl rfl (q := 22) rfl ?_
  refine j_gf o dX1_log_22 (jw 1 0 rfl rfl) kcX1 0 (Nat.le_of_ble_eq_true rfl) q353 rfl (q := 25) rfl ?_
  refine j_iclt o 39 dX1_log_25 (by decide) (q := 28) rfl (fun c => ?_) (fun c => ?_)
  · rw [nI_ltI (by omega) (by omega)] at c
    refine j_mv1 ?_
    exact j_vret o r dX1_log_39 [_, _] _ rfl (⟨rfl, wl2, by rw [if_neg (by omega)], hA2⟩) (by omega)
  · rw [nI_ltI (by omega) (by omega)] at c
    refine j_ald_n o dX1_log_28 rfl rfl (q := 29) rfl ?_
    refine j_ald_n o dX1_log_29 rfl rfl (q := 30) rfl ?_
    refine j_gf o dX1_log_30 (jw 1 0 rfl rfl) kcX1 9 (Nat.le_of_ble_eq_true rfl) q362 rfl (q := 33) rfl ?_
    refine j_callV0 o (ctJ2_size hG _ (jwl 0 rfl hz5)) dX1_log_33 q398 wdJ2_size mdJ2_size (jwm 0 rfl hz5) (by rfl) (by rfl) rfl (Nat.le_of_ble_eq_true rfl) (Nat.le_of_ble_eq_true rfl) (by omega) (Nat.le_of_ble_eq_true rfl) (q := 36) rfl (fun v wd hpost => ?_)
    obtain ⟨rfl, rfl⟩ := hpost
    dsimp only [List.cons_append, List.nil_append, Option.toList]
    rw [hl]
    refine j_pf o dX1_log_36 1 0 rfl rfl kcX1 6 (Nat.le_of_ble_eq_true rfl) q359 rfl rfl rfl (Nat.le_of_ble_eq_true rfl) (q := 39) rfl ?_
    dsimp only [List.set]
    refine j_mv1 ?_
    exact j_vret o r dX1_log_39 [_, _] _ rfl (⟨rfl, wl2, by rw [if_pos (by omega)], hA2⟩) (by omega)
