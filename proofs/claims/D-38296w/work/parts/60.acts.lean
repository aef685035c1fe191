/-! ACTS and clients -/
set_option maxRecDepth 100000
/-- kind (0 PUT, 1 DROP, 2 REHASH, 3 BOUNDS) and two numbers -/
abbrev Act3 : Type := Nat × Nat × Nat
def acO (a : Act3) : va_E := if a.1 = 0 then eO 13 [.int (nI a.2.1), .int (nI a.2.2)] else if a.1 = 1 then eO 14 [.int (nI a.2.1)] else if a.1 = 2 then eO 15 [.int (nI a.2.1), .int (nI a.2.2)] else eO 12 [.int (nI a.2.1), .int (nI a.2.2)]
theorem ctX12_init {l : Launch} {g : jG} (hG : GS l g) (bg : va_W) (q : Nat) (x y : Int32) : KX12_init l g 2 0 [.ref q, .int x, .int y] bg [[(q, eO 12 fdX12)]] (fun v wd => v = none ∧ wd = [[(q, eO 12 [.int x, .int y])]]) := by
  refine Ctr.of [some (.ref q), some (.int x), some (.int y)] hG (by decide +kernel) rfl (Nat.le_of_ble_eq_true rfl) (fun Y hl hN0 o r hI => ?_)
  subst hl
  have hN : ∀ i, i < 3 → i < yN Y := fun i h => by rw [hN0]; exact h
  refine j_ald_n o dX12_init_0 rfl rfl (q := 1) rfl ?_
  refine j_obj o (Nat.le_of_ble_eq_true rfl) dX12_init_1 q1094 q110 q111 (Nat.le_of_ble_eq_true rfl) (q := 4) rfl ?_
  refine j_ald_n o dX12_init_4 rfl rfl (q := 5) rfl ?_
  refine j_ild_n o dX12_init_5 rfl (q := 6) rfl ?_
  refine j_pfF o dX12_init_6 (hI rfl) 0 0 rfl rfl kcX12 0 (Nat.le_of_ble_eq_true rfl) q1095 rfl rfl rfl rfl (Nat.le_of_ble_eq_true rfl) (q := 9) rfl ?_
  dsimp only [List.set]
  refine j_ald_n o dX12_init_9 rfl rfl (q := 10) rfl ?_
  refine j_ild_n o dX12_init_10 rfl (q := 11) rfl ?_
  refine j_pfF o dX12_init_11 (hI rfl) 0 0 rfl rfl kcX12 1 (Nat.le_of_ble_eq_true rfl) q1096 rfl rfl rfl rfl (Nat.le_of_ble_eq_true rfl) (q := 14) rfl ?_
  dsimp only [List.set]
  exact j_vret o r dX12_init_14 [_] _ rfl (⟨rfl, rfl⟩) (by omega)
theorem ctX13_init {l : Launch} {g : jG} (hG : GS l g) (bg : va_W) (q : Nat) (x y : Int32) : KX13_init l g 2 0 [.ref q, .int x, .int y] bg [[(q, eO 13 fdX13)]] (fun v wd => v = none ∧ wd = [[(q, eO 13 [.int x, .int y])]]) := by
  refine Ctr.of [some (.ref q), some (.int x), some (.int y)] hG (by decide +kernel) rfl (Nat.le_of_ble_eq_true rfl) (fun Y hl hN0 o r hI => ?_)
  subst hl
  have hN : ∀ i, i < 3 → i < yN Y := fun i h => by rw [hN0]; exact h
  refine j_ald_n o dX13_init_0 rfl rfl (q := 1) rfl ?_
  refine j_obj o (Nat.le_of_ble_eq_true rfl) dX13_init_1 q1138 q110 q111 (Nat.le_of_ble_eq_true rfl) (q := 4) rfl ?_
  refine j_ald_n o dX13_init_4 rfl rfl (q := 5) rfl ?_
  refine j_ild_n o dX13_init_5 rfl (q := 6) rfl ?_
  refine j_pfF o dX13_init_6 (hI rfl) 0 0 rfl rfl kcX13 0 (Nat.le_of_ble_eq_true rfl) q1139 rfl rfl rfl rfl (Nat.le_of_ble_eq_true rfl) (q := 9) rfl ?_
  dsimp only [List.set]
  refine j_ald_n o dX13_init_9 rfl rfl (q := 10) rfl ?_
  refine j_ild_n o dX13_init_10 rfl (q := 11) rfl ?_
  refine j_pfF o dX13_init_11 (hI rfl) 0 0 rfl rfl kcX13 1 (Nat.le_of_ble_eq_true rfl) q1140 rfl rfl rfl rfl (Nat.le_of_ble_eq_true rfl) (q := 14) rfl ?_
  dsimp only [List.set]
  exact j_vret o r dX13_init_14 [_] _ rfl (⟨rfl, rfl⟩) (by omega)
theorem ctX14_init {l : Launch} {g : jG} (hG : GS l g) (bg : va_W) (q : Nat) (x : Int32) : KX14_init l g 2 0 [.ref q, .int x] bg [[(q, eO 14 fdX14)]] (fun v wd => v = none ∧ wd = [[(q, eO 14 [.int x])]]) := by
  refine Ctr.of [some (.ref q), some (.int x)] hG (by decide +kernel) rfl (Nat.le_of_ble_eq_true rfl) (fun Y hl hN0 o r hI => ?_)
  subst hl
  have hN : ∀ i, i < 2 → i < yN Y := fun i h => by rw [hN0]; exact h
  refine j_ald_n o dX14_init_0 rfl rfl (q := 1) rfl ?_
  refine j_obj o (Nat.le_of_ble_eq_true rfl) dX14_init_1 q1161 q110 q111 (Nat.le_of_ble_eq_true rfl) (q := 4) rfl ?_
  refine j_ald_n o dX14_init_4 rfl rfl (q := 5) rfl ?_
  refine j_ild_n o dX14_init_5 rfl (q := 6) rfl ?_
  refine j_pfF o dX14_init_6 (hI rfl) 0 0 rfl rfl kcX14 0 (Nat.le_of_ble_eq_true rfl) q1162 rfl rfl rfl rfl (Nat.le_of_ble_eq_true rfl) (q := 9) rfl ?_
  dsimp only [List.set]
  exact j_vret o r dX14_init_9 [_] _ rfl (⟨rfl, rfl⟩) (by omega)
theorem ctX15_init {l : Launch} {g : jG} (hG : GS l g) (bg : va_W) (q : Nat) (x y : Int32) : KX15_init l g 2 0 [.ref q, .int x, .int y] bg [[(q, eO 15 fdX15)]] (fun v wd => v = none ∧ wd = [[(q, eO 15 [.int x, .int y])]]) := by
  refine Ctr.of [some (.ref q), some (.int x), some (.int y)] hG (by decide +kernel) rfl (Nat.le_of_ble_eq_true rfl) (fun Y hl hN0 o r hI => ?_)
  subst hl
  have hN : ∀ i, i < 3 → i < yN Y := fun i h => by rw [hN0]; exact h
  refine j_ald_n o dX15_init_0 rfl rfl (q := 1) rfl ?_
  refine j_obj o (Nat.le_of_ble_eq_true rfl) dX15_init_1 q1181 q110 q111 (Nat.le_of_ble_eq_true rfl) (q := 4) rfl ?_
  refine j_ald_n o dX15_init_4 rfl rfl (q := 5) rfl ?_
  refine j_ild_n o dX15_init_5 rfl (q := 6) rfl ?_
  refine j_pfF o dX15_init_6 (hI rfl) 0 0 rfl rfl kcX15 0 (Nat.le_of_ble_eq_true rfl) q1182 rfl rfl rfl rfl (Nat.le_of_ble_eq_true rfl) (q := 9) rfl ?_
  dsimp only [List.set]
  refine j_ald_n o dX15_init_9 rfl rfl (q := 10) rfl ?_
  refine j_ild_n o dX15_init_10 rfl (q := 11) rfl ?_
  refine j_pfF o dX15_init_11 (hI rfl) 0 0 rfl rfl kcX15 1 (Nat.le_of_ble_eq_true rfl) q1183 rfl rfl rfl rfl (Nat.le_of_ble_eq_true rfl) (q := 14) rfl ?_
  dsimp only [List.set]
  exact j_vret o r dX15_init_14 [_] _ rfl (⟨rfl, rfl⟩) (by omega)
theorem ctX12_on {l : Launch} {g : jG} (hG : GS l g) (bg : va_W) {a q hs x y : Nat} {F : Fl} {ess : List (List Nat)} {w : va_W} (ha : (a, eO 12 [.int (nI x), .int (nI y)]) ∈ bg) (hS : isF g hs q F ess w) : KX12_on l g 1 0 [.ref a, .ref q] bg [w] (fun v wd => v = none ∧ ∃ w2, wd = [w2] ∧ isF g hs q ((fC F, x, y), F.2.1, F.2.2.1, F.2.2.2) ess w2) := by
  obtain ⟨bl, tk, R, hp, hcl⟩ := isSt_cell hS
  refine Ctr.of [some (.ref a), some (.ref q)] hG (by decide +kernel) rfl (Nat.le_of_ble_eq_true rfl) (fun Y hl hN0 o r hI => ?_)
  subst hl
  have hN : ∀ i, i < 2 → i < yN Y := fun i h => by rw [hN0]; exact h
  refine j_spP _ (hp) ?_
  dsimp only [List.cons_append, List.nil_append]
  refine j_ald_n o dX12_on_0 rfl rfl (q := 1) rfl ?_
  refine j_ald_n o dX12_on_1 rfl rfl (q := 2) rfl ?_
  refine j_gf o dX12_on_2 (jb ha) kcX12 0 (Nat.le_of_ble_eq_true rfl) q1095 rfl (q := 5) rfl ?_
  refine j_pf o dX12_on_5 0 0 rfl rfl kcX2 1 (Nat.le_of_ble_eq_true rfl) q292 rfl rfl rfl (Nat.le_of_ble_eq_true rfl) (q := 8) rfl ?_
  dsimp only [List.set]
  refine j_ald_n o dX12_on_8 rfl rfl (q := 9) rfl ?_
  refine j_ald_n o dX12_on_9 rfl rfl (q := 10) rfl ?_
  refine j_gf o dX12_on_10 (jb ha) kcX12 1 (Nat.le_of_ble_eq_true rfl) q1096 rfl (q := 13) rfl ?_
  refine j_pf o dX12_on_13 0 0 rfl rfl kcX2 2 (Nat.le_of_ble_eq_true rfl) q295 rfl rfl rfl (Nat.le_of_ble_eq_true rfl) (q := 16) rfl ?_
  dsimp only [List.set]
  refine j_mgN [_, _] (fun w2 hw2 => ?_)
  first | dsimp only [List.cons_append, List.nil_append] | skip
  exact j_vret o r dX12_on_16 [_] _ rfl (⟨rfl, w2, rfl, hcl hs (fC F, x, y, fSp F, fMg F) _ _ _ w2 rfl (by letI : DecidableEq (Nat × va_E) := fun _ _ => Classical.propDecidable _; exact List.perm_iff_count.mpr (fun a_ => by have e0_ := List.Perm.count_eq (hw2) a_; simp only [List.flatten_cons, List.flatten_nil, jflat, List.cons_append, List.nil_append, List.count_append, List.count_cons, List.append_nil, List.count_nil, List.flatten_append, bkO, pgO, stO, eO, tkO, eA] at e0_ ⊢; omega))⟩) (by omega)
theorem ctX13_on {l : Launch} {g : jG} (hG : GS l g) (bg : va_W) {a q hs k v : Nat} {F : Fl} {ess : List (List Nat)} {w we : va_W} (ha : (a, eO 13 [.int (nI k), .int (nI v)]) ∈ bg) (hS : isF g hs q F ess w) (hE : entB we ess (fB F)) (hh : (hs, hsO (fCh F) (fSd F)) ∈ bg) (hI9 : InvF F) (hk : k < 10000) (hv : v < 10000) (hroom : fGet (fCh F) (fSd F) (fB F) k = none → rws (fB F) < 60) : KX13_on l g 12 (uPut F k v) [.ref a, .ref q] bg [w, we] (fun x wd => x = none ∧ ∃ ess2 w2 we2, wd = [w2, we2] ∧ isF g hs q (fPut F k v) ess2 w2 ∧ entB we2 ess2 (fB (fPut F k v))) := by
  have hR2 := isSt.r (S := w) hS (fun _ h => h)
  obtain ⟨bl2, tk2, qs2, z1, -⟩ := hR2
  refine Ctr.of [some (.ref a), some (.ref q)] hG (by decide +kernel) rfl (Nat.le_of_ble_eq_true rfl) (fun Y hl hN0 o r hI => ?_)
  subst hl
  have hN : ∀ i, i < 2 → i < yN Y := fun i h => by rw [hN0]; exact h
  refine j_ald_n o dX13_on_0 rfl rfl (q := 1) rfl ?_
  refine j_ald_n o dX13_on_1 rfl rfl (q := 2) rfl ?_
  refine j_gf o dX13_on_2 (jb ha) kcX13 0 (Nat.le_of_ble_eq_true rfl) q1139 rfl (q := 5) rfl ?_
  refine j_ald_n o dX13_on_5 rfl rfl (q := 6) rfl ?_
  refine j_gf o dX13_on_6 (jb ha) kcX13 1 (Nat.le_of_ble_eq_true rfl) q1140 rfl (q := 9) rfl ?_
  refine j_callV2 o (ctX2_put hG _ hS hE (jmr hh) hI9 hk hv hroom) dX13_on_9 q598 wdX2_put mdX2_put (jwm 0 rfl z1) (by rfl) (by rfl) rfl (Nat.le_of_ble_eq_true rfl) (Nat.le_of_ble_eq_true rfl) (by omega) (Nat.le_of_ble_eq_true rfl) (q := 12) rfl (fun v wd hpost => ?_)
  obtain ⟨rfl, ess3, w3, we3, rfl, hS3, hE3, -⟩ := hpost
  dsimp only [List.cons_append, List.nil_append, Option.toList]
  refine j_pop o dX13_on_12 rfl (q := 13) rfl ?_
  exact j_vret o r dX13_on_13 [_, _] _ rfl (⟨rfl, ess3, w3, we3, rfl, hS3, hE3⟩) (by omega)
theorem ctX14_on {l : Launch} {g : jG} (hG : GS l g) (bg : va_W) {a q hs k i : Nat} {F : Fl} {ess : List (List Nat)} {w : va_W} {r9 : Row} (ha : (a, eO 14 [.int (nI k)]) ∈ bg) (hS : isF g hs q F ess w) (hE : entB bg ess (fB F)) (hh : (hs, hsO (fCh F) (fSd F)) ∈ bg) (hI9 : InvF F) (hk : k < 10000) (hF : jFst ((bAt (fB F) (bOf (fCh F) (fSd F) (fB F) k)).1.map (·.1)) k i) (hr9 : (bAt (fB F) (bOf (fCh F) (fSd F) (fB F) k)).1[i]? = some r9) : KX14_on l g 12 (uDrop F k) [.ref a, .ref q] bg [w] (fun v wd => v = none ∧ ∃ ess2 w2, wd = [w2] ∧ isF g hs q (fDrop F k) ess2 w2 ∧ ∀ S, entB S ess (fB F) → entB S ess2 (fB (fDrop F k))) := by
  have hR2 := isSt.r (S := w) hS (fun _ h => h)
  obtain ⟨bl2, tk2, qs2, z1, -⟩ := hR2
  refine Ctr.of [some (.ref a), some (.ref q)] hG (by decide +kernel) rfl (Nat.le_of_ble_eq_true rfl) (fun Y hl hN0 o r hI => ?_)
  subst hl
  have hN : ∀ i, i < 2 → i < yN Y := fun i h => by rw [hN0]; exact h
  refine j_ald_n o dX14_on_0 rfl rfl (q := 1) rfl ?_
  refine j_ald_n o dX14_on_1 rfl rfl (q := 2) rfl ?_
  refine j_gf o dX14_on_2 (jb ha) kcX14 0 (Nat.le_of_ble_eq_true rfl) q1162 rfl (q := 5) rfl ?_
  refine j_callV1 o (ctX2_drop hG _ hS (hE.mono (fun _ => jmr)) (jmr hh) hI9 hk hF hr9) dX14_on_5 q484 wdX2_drop mdX2_drop (jwm 0 rfl z1) (by rfl) (by rfl) rfl (Nat.le_of_ble_eq_true rfl) (Nat.le_of_ble_eq_true rfl) (by omega) (Nat.le_of_ble_eq_true rfl) (q := 8) rfl (fun v wd hpost => ?_)
  obtain ⟨rfl, ess3, w3, rfl, hS3, hE3⟩ := hpost
  dsimp only [List.cons_append, List.nil_append, Option.toList]
  exact j_vret o r dX14_on_8 [_] _ rfl (⟨rfl, ess3, w3, rfl, hS3, hE3⟩) (by omega)
theorem ctX15_on {l : Launch} {g : jG} (hG : GS l g) (bg : va_W) {a q hs ch2 sd2 : Nat} {F : Fl} {ess : List (List Nat)} {w we : va_W} (ha : (a, eO 15 [.int (nI ch2), .int (nI sd2)]) ∈ bg) (hS : isF g hs q F ess w) (hE : entB we ess (fB F)) (hI9 : InvF F) (hc : ch2 < 1024) (hs9 : sd2 < 10) : KX15_on l g 13 (uRe F ch2 sd2) [.ref a, .ref q] bg [w, we] (fun x wd => x = none ∧ ∃ h2 ess2 w2 we2, wd = [w2, we2, [(h2, hsO ch2 sd2)]] ∧ isF g h2 q (fRe F ch2 sd2) ess2 w2 ∧ entB we2 ess2 (fB (fRe F ch2 sd2))) := by
  have hR2 := isSt.r (S := w) hS (fun _ h => h)
  obtain ⟨bl2, tk2, qs2, z1, -⟩ := hR2
  refine Ctr.of [some (.ref a), some (.ref q)] hG (by decide +kernel) rfl (Nat.le_of_ble_eq_true rfl) (fun Y hl hN0 o r hI => ?_)
  subst hl
  have hN : ∀ i, i < 2 → i < yN Y := fun i h => by rw [hN0]; exact h
  refine j_ald_n o dX15_on_0 rfl rfl (q := 1) rfl ?_
  refine j_ald_n o dX15_on_1 rfl rfl (q := 2) rfl ?_
  refine j_gf o dX15_on_2 (jb ha) kcX15 0 (Nat.le_of_ble_eq_true rfl) q1182 rfl (q := 5) rfl ?_
  refine j_ald_n o dX15_on_5 rfl rfl (q := 6) rfl ?_
  refine j_gf o dX15_on_6 (jb ha) kcX15 1 (Nat.le_of_ble_eq_true rfl) q1183 rfl (q := 9) rfl ?_
  refine j_callV2 o (ctX2_rehash hG _ hS hE hI9 hc hs9) dX15_on_9 q617 wdX2_rehash mdX2_rehash (jwm 0 rfl z1) (by rfl) (by rfl) rfl (Nat.le_of_ble_eq_true rfl) (Nat.le_of_ble_eq_true rfl) (by omega) (Nat.le_of_ble_eq_true rfl) (q := 12) rfl (fun v wd hpost => ?_)
  obtain ⟨rfl, h2, ess3, w3, we3, rfl, hS3, hE3⟩ := hpost
  dsimp only [List.cons_append, List.nil_append, Option.toList]
  exact j_vret o r dX15_on_12 [_, _, _] _ rfl (⟨rfl, h2, ess3, w3, we3, rfl, hS3, hE3⟩) (by omega)
/-- a client that believes in n buckets -/
abbrev clO (n : Nat) : va_E := eO 6 [.int (nI (lvl n)), .int (nI (ptr n))]
theorem ctX6_buckets {l : Launch} {g : jG} (hG : GS l g) (bg : va_W) {c n : Nat} (hc : (c, clO n) ∈ bg) (h2 : 2 ≤ n) (h9 : n < 2 ^ 10) : KX6_buckets l g 1 0 [.ref c] bg [] (fun v wd => v = some (.int (nI n)) ∧ wd = []) := by
  have h1 := bse_lvl h2
  have h3 := bse_ptr (n := n) (by omega)
  have h4 := log2_le (n := n) (k := 9) h9
  have h5 : lvl n < 32 := by unfold lvl; omega
  refine Ctr.of [some (.ref c)] hG (by decide +kernel) rfl (Nat.le_of_ble_eq_true rfl) (fun Y hl hN0 o r hI => ?_)
  subst hl
  have hN : ∀ i, i < 1 → i < yN Y := fun i h => by rw [hN0]; exact h
  refine j_iconst o (nI 2) dX6_buckets_0 (by decide) (q := 1) rfl ?_
  refine j_ald_n o dX6_buckets_1 rfl rfl (q := 2) rfl ?_
  refine j_gf o dX6_buckets_2 (jb hc) kcX6 0 (Nat.le_of_ble_eq_true rfl) q344 rfl (q := 5) rfl ?_
  refine j_ishl o dX6_buckets_5 (q := 6) rfl ?_
  refine j_topi o (nI (2 * 2 ^ lvl n)) (nI_shl h5 (by omega)) ?_
  refine j_ald_n o dX6_buckets_6 rfl rfl (q := 7) rfl ?_
  refine j_gf o dX6_buckets_7 (jb hc) kcX6 1 (Nat.le_of_ble_eq_true rfl) q346 rfl (q := 10) rfl ?_
  refine j_iadd o dX6_buckets_10 (q := 11) rfl ?_
  refine j_topi o (nI n) ((by rw [nI_add]; congr 1; omega)) ?_
  exact j_ret o r dX6_buckets_11 rfl [] _ rfl (⟨rfl, rfl⟩) (by omega)
theorem ctX6_address {l : Launch} {g : jG} (hG : GS l g) (bg : va_W) {c n h : Nat} (hc : (c, clO n) ∈ bg) (h2 : 2 ≤ n) (h9 : n < 2 ^ 10) (hh : h < 2 ^ 20) : KX6_address l g 1 0 [.ref c, .int (nI h)] bg [] (fun v wd => v = some (.int (nI (adr n h))) ∧ wd = []) := by
  have h1 := bse_lvl h2
  have h3 := bse_ptr (n := n) (by omega)
  have h4 := log2_le (n := n) (k := 9) h9
  have h5 : lvl n < 32 := by unfold lvl; omega
  have h6 := bse_pos n
  have h7 : h % bse n ≤ h := Nat.mod_le _ _
  refine Ctr.of [some (.ref c), some (.int (nI h)), none, none] hG (by decide +kernel) rfl (Nat.le_of_ble_eq_true rfl) (fun Y hl hN0 o r hI => ?_)
  subst hl
  have hN : ∀ i, i < 4 → i < yN Y := fun i h => by rw [hN0]; exact h
  refine j_iconst o (nI 2) dX6_address_0 (by decide) (q := 1) rfl ?_
  refine j_ald_n o dX6_address_1 rfl rfl (q := 2) rfl ?_
  refine j_gf o dX6_address_2 (jb hc) kcX6 0 (Nat.le_of_ble_eq_true rfl) q344 rfl (q := 5) rfl ?_
  refine j_ishl o dX6_address_5 (q := 6) rfl ?_
  refine j_topi o (nI (bse n)) ((by rw [← h1]; exact nI_shl h5 (by omega))) ?_
  refine j_ist2 o dX6_address_6 rfl (hN 2 (Nat.le_of_ble_eq_true rfl)) (q := 7) rfl ?_
  refine j_ild_n o dX6_address_7 rfl (q := 8) rfl ?_
  refine j_ild_n o dX6_address_8 rfl (q := 9) rfl ?_
  refine j_irem o dX6_address_9 (nI_n0 (by omega) (by omega)) (q := 10) rfl ?_
  refine j_topi o (nI (h % bse n)) (nI_rem (by omega) (by omega) (by omega)) ?_
  refine j_ist3 o dX6_address_10 rfl (hN 3 (Nat.le_of_ble_eq_true rfl)) (q := 11) rfl ?_
  refine j_ild_n o dX6_address_11 rfl (q := 12) rfl ?_
  refine j_ald_n o dX6_address_12 rfl rfl (q := 13) rfl ?_
  refine j_gf o dX6_address_13 (jb hc) kcX6 1 (Nat.le_of_ble_eq_true rfl) q346 rfl (q := 16) rfl ?_
  refine j_icge o 27 dX6_address_16 (by decide) (q := 19) rfl (fun c => ?_) (fun c => ?_)
  · rw [nI_leI (by omega) (by omega)] at c
    refine j_ild_n o dX6_address_27 rfl (q := 28) rfl ?_
    exact j_ret o r dX6_address_28 rfl [] _ rfl (⟨by unfold adr; rw [if_neg (by omega)], rfl⟩) (by omega)
  · rw [nI_leI (by omega) (by omega)] at c
    refine j_ild_n o dX6_address_19 rfl (q := 20) rfl ?_
    refine j_iconst o (nI 2) dX6_address_20 (by decide) (q := 21) rfl ?_
    refine j_ild_n o dX6_address_21 rfl (q := 22) rfl ?_
    refine j_imul o dX6_address_22 (q := 23) rfl ?_
    refine j_topi o (nI (2 * bse n)) (pk_mul _ _) ?_
    refine j_irem o dX6_address_23 (nI_n0 (by omega) (by omega)) (q := 24) rfl ?_
    refine j_topi o (nI (h % (2 * bse n))) (nI_rem (by omega) (by omega) (by omega)) ?_
    refine j_goto o 28 dX6_address_24 (by decide) ?_
    exact j_ret o r dX6_address_28 rfl [] _ rfl (⟨by unfold adr; rw [if_pos (by omega)], rfl⟩) (by omega)
theorem lvl_of {d p : Nat} (hp : p < 2 * 2 ^ d) : lvl (2 * 2 ^ d + p) = d ∧ ptr (2 * 2 ^ d + p) = p := by
  have hx := Nat.two_pow_pos d
  have e : Nat.log2 (2 * 2 ^ d + p) = d + 1 := by
    rw [Nat.log2_eq_iff (by omega), Nat.pow_succ, Nat.pow_succ, Nat.pow_succ]
    omega
  refine ⟨by unfold lvl; rw [e]; omega, ?_⟩
  unfold ptr bse
  rw [e, Nat.pow_succ]
  omega
theorem ctX6_learn {l : Launch} {g : jG} (hG : GS l g) (bg : va_W) {c n b d : Nat} (hd : 1 ≤ d) (hd9 : d < 10) (hb : b < 2 ^ 10) : KX6_learn l g 1 0 [.ref c, .int (nI b), .int (nI d)] bg [[(c, clO n)]] (fun v wd => v = none ∧ wd = [[(c, clO (min (2 ^ d + b + 1) (2 * 2 ^ d)))]]) := by
  obtain ⟨d, rfl⟩ : ∃ e, d = e + 1 := ⟨d - 1, by omega⟩
  have hx := Nat.two_pow_pos d
  have hp9 : 2 ^ d ≤ 2 ^ 9 := Nat.pow_le_pow_right (by omega) (by omega)
  have hps : 2 ^ (d + 1) = 2 * 2 ^ d := by rw [Nat.pow_succ, Nat.mul_comm]
  refine Ctr.of [some (.ref c), some (.int (nI b)), some (.int (nI (d + 1)))] hG (by decide +kernel) rfl (Nat.le_of_ble_eq_true rfl) (fun Y hl hN0 o r hI => ?_)
  subst hl
  have hN : ∀ i, i < 3 → i < yN Y := fun i h => by rw [hN0]; exact h
  refine j_ald_n o dX6_learn_0 rfl rfl (q := 1) rfl ?_
  refine j_ild_n o dX6_learn_1 rfl (q := 2) rfl ?_
  refine j_iconst o (nI 1) dX6_learn_2 (by decide) (q := 3) rfl ?_
  refine j_isub o dX6_learn_3 (q := 4) rfl ?_
  refine j_topi o (nI d) ((by rw [pk_sub (by omega)]; congr 1)) ?_
  refine j_pf o dX6_learn_4 0 0 rfl rfl kcX6 0 (Nat.le_of_ble_eq_true rfl) q344 rfl rfl rfl (Nat.le_of_ble_eq_true rfl) (q := 7) rfl ?_
  dsimp only [List.set]
  refine j_ald_n o dX6_learn_7 rfl rfl (q := 8) rfl ?_
  refine j_ild_n o dX6_learn_8 rfl (q := 9) rfl ?_
  refine j_iconst o (nI 1) dX6_learn_9 (by decide) (q := 10) rfl ?_
  refine j_iadd o dX6_learn_10 (q := 11) rfl ?_
  refine j_topi o (nI (b + 1)) (nI_1 _) ?_
  refine j_pf o dX6_learn_11 0 0 rfl rfl kcX6 1 (Nat.le_of_ble_eq_true rfl) q346 rfl rfl rfl (Nat.le_of_ble_eq_true rfl) (q := 14) rfl ?_
  dsimp only [List.set]
  refine j_ald_n o dX6_learn_14 rfl rfl (q := 15) rfl ?_
  refine j_gf o dX6_learn_15 (jw 0 0 rfl rfl) kcX6 1 (Nat.le_of_ble_eq_true rfl) q346 rfl (q := 18) rfl ?_
  refine j_iconst o (nI 2) dX6_learn_18 (by decide) (q := 19) rfl ?_
  refine j_ald_n o dX6_learn_19 rfl rfl (q := 20) rfl ?_
  refine j_gf o dX6_learn_20 (jw 0 0 rfl rfl) kcX6 0 (Nat.le_of_ble_eq_true rfl) q344 rfl (q := 23) rfl ?_
  refine j_ishl o dX6_learn_23 (q := 24) rfl ?_
  refine j_topi o (nI (2 * 2 ^ d)) (nI_shl (by omega) (by omega)) ?_
  refine j_iclt o 37 dX6_learn_24 (by decide) (q := 27) rfl (fun c2 => ?_) (fun c2 => ?_)
  · rw [nI_ltI (by omega) (by omega)] at c2
    have hl := lvl_of (d := d) (p := b + 1) c2
    exact j_vret o r dX6_learn_37 [_] _ rfl (⟨rfl, by rw [hps, show min (2 * 2 ^ d + b + 1) (2 * (2 * 2 ^ d)) = 2 * 2 ^ d + (b + 1) by omega]; show _ = [[(c, eO 6 [.int (nI (lvl _)), .int (nI (ptr _))])]]; rw [hl.1, hl.2]⟩) (by omega)
  · rw [nI_ltI (by omega) (by omega)] at c2
    have hl := lvl_of (d := d + 1) (p := 0) (by omega)
    rw [Nat.add_zero, hps] at hl
    refine j_ald_n o dX6_learn_27 rfl rfl (q := 28) rfl ?_
    refine j_ild_n o dX6_learn_28 rfl (q := 29) rfl ?_
    refine j_pf o dX6_learn_29 0 0 rfl rfl kcX6 0 (Nat.le_of_ble_eq_true rfl) q344 rfl rfl rfl (Nat.le_of_ble_eq_true rfl) (q := 32) rfl ?_
    dsimp only [List.set]
    refine j_ald_n o dX6_learn_32 rfl rfl (q := 33) rfl ?_
    refine j_iconst o (nI 0) dX6_learn_33 (by decide) (q := 34) rfl ?_
    refine j_pf o dX6_learn_34 0 0 rfl rfl kcX6 1 (Nat.le_of_ble_eq_true rfl) q346 rfl rfl rfl (Nat.le_of_ble_eq_true rfl) (q := 37) rfl ?_
    dsimp only [List.set]
    exact j_vret o r dX6_learn_37 [_] _ rfl (⟨rfl, by rw [hps, show min (2 * 2 ^ d + b + 1) (2 * (2 * 2 ^ d)) = 2 * (2 * 2 ^ d) by omega]; show _ = [[(c, eO 6 [.int (nI (lvl _)), .int (nI (ptr _))])]]; rw [hl.1, hl.2]⟩) (by omega)
