/-! LISTS of the JDK, third: growth, adding, setting, removing the last -/
set_option maxRecDepth 100000
def gcap (cap mn : Nat) : Nat := cap + max (mn - cap) (cap / 2)
theorem ctJ2_grow_2 {l : Launch} {g : jG} (hG : GS l g) (bg : va_W) {q b n cap mn : Nat} {m : Int32} {xs : List Nat} (hel : ∀ x ∈ xs, jElB g bg x) (hx : xs.length ≤ cap) (h0 : 10 ≤ cap) (h1 : cap < mn) (h2 : mn < 2 ^ 17) : KJ2_grow_2 l g 4 (gcap cap mn / 12 + 1) [.ref q, .int (nI mn)] bg [[(q, alO m b n), (b, eQ g 3 cap (fun i => xs[i]?))]] (fun v wd => ∃ a, v = some (.ref a) ∧ jB g ≤ a ∧ wd = [[(q, alO m a n), (a, eQ g 3 (gcap cap mn) (fun i => xs[i]?))]]) := by
  have hg : gcap cap mn < 2 ^ 18 := by unfold gcap; omega
  have hg2 : cap ≤ gcap cap mn := by unfold gcap; omega
  refine Ctr.of [some (.ref q), some (.int (nI mn)), none, none] hG (by decide +kernel) rfl (Nat.le_of_ble_eq_true rfl) (fun Y hl hN0 o r hI => ?_)
  subst hl
  have hN : ∀ i, i < 4 → i < yN Y := fun i h => by rw [hN0]; exact h
  refine j_ald_n o dJ2_grow_2_0 rfl rfl (q := 1) rfl ?_
  refine j_gf o dJ2_grow_2_1 (jw 0 0 rfl rfl) kcJ2 1 (Nat.le_of_ble_eq_true rfl) q147 rfl (q := 4) rfl ?_
  refine j_alen o dJ2_grow_2_4 (jw 0 1 rfl rfl) rfl rfl (q := 5) rfl ?_
  refine j_ist2 o dJ2_grow_2_5 rfl (hN 2 (Nat.le_of_ble_eq_true rfl)) (q := 6) rfl ?_
  refine j_ild_n o dJ2_grow_2_6 rfl (q := 7) rfl ?_
  refine j_ifgtT o 20 dJ2_grow_2_7 (by decide) (nI_lt (a := 0) (by omega) (by omega)) ?_
  refine j_ild_n o dJ2_grow_2_20 rfl (q := 21) rfl ?_
  refine j_ild_n o dJ2_grow_2_21 rfl (q := 22) rfl ?_
  refine j_ild_n o dJ2_grow_2_22 rfl (q := 23) rfl ?_
  refine j_isub o dJ2_grow_2_23 (q := 24) rfl ?_
  refine j_topi o (nI (mn - cap)) (pk_sub (by omega)) ?_
  refine j_ild_n o dJ2_grow_2_24 rfl (q := 25) rfl ?_
  refine j_iconst o (nI 1) dJ2_grow_2_25 (by decide) (q := 26) rfl ?_
  refine j_ishr o dJ2_grow_2_26 (q := 27) rfl ?_
  refine j_topi o (nI (cap / 2)) (pk_shrN (by omega) _ 1 (by decide)) ?_
  refine j_callS0 o (ctJ3_newLength hG _ (a := cap) (b := mn - cap) (c := cap / 2) (by omega) (by omega)) dJ2_grow_2_27 q234 wdJ3_newLength mdJ3_newLength rfl (Nat.le_of_ble_eq_true rfl) (Nat.le_of_ble_eq_true rfl) (by omega) (Nat.le_of_ble_eq_true rfl) (q := 30) rfl (fun v wd hpost => ?_)
  obtain ⟨rfl, rfl⟩ := hpost
  dsimp only [List.cons_append, List.nil_append, Option.toList]
  refine j_ist3 o dJ2_grow_2_30 rfl (hN 3 (Nat.le_of_ble_eq_true rfl)) (q := 31) rfl ?_
  refine j_ald_n o dJ2_grow_2_31 rfl rfl (q := 32) rfl ?_
  refine j_ald_n o dJ2_grow_2_32 rfl rfl (q := 33) rfl ?_
  refine j_gf o dJ2_grow_2_33 (jw 0 0 rfl rfl) kcJ2 1 (Nat.le_of_ble_eq_true rfl) q147 rfl (q := 36) rfl ?_
  refine j_ild_n o dJ2_grow_2_36 rfl (q := 37) rfl ?_
  refine j_callS0 o (ctJ5_copyOf hG _ (b := b) (cap := cap) (N := gcap cap mn) (f := fun i => xs[i]?) (by simp) (fun i hi y hy => (hel y (List.mem_of_getElem? hy)).mono (fun _ => jmr)) (by omega) hg) dJ2_grow_2_37 q244 wdJ5_copyOf mdJ5_copyOf rfl (Nat.le_of_ble_eq_true rfl) (Nat.le_of_ble_eq_true rfl) (by omega) (Nat.le_of_ble_eq_true rfl) (q := 40) rfl (fun v wd hpost => ?_)
  obtain ⟨a, rfl, ha, rfl⟩ := hpost
  dsimp only [List.cons_append, List.nil_append, Option.toList]
  rw [cpyx (by omega)]
  refine j_dup_x1 o dJ2_grow_2_40 rfl rfl (q := 41) rfl ?_
  refine j_pf o dJ2_grow_2_41 1 0 rfl rfl kcJ2 1 (Nat.le_of_ble_eq_true rfl) q147 rfl rfl rfl (Nat.le_of_ble_eq_true rfl) (q := 44) rfl ?_
  dsimp only [List.set]
  refine j_pm [[(q, alO m a n), (a, eQ g 3 (gcap cap mn) (fun i => xs[i]?))], [(b, eQ g 3 cap (fun i => xs[i]?))]] (List.Perm.swap _ _ _) ?_
  exact j_aret o r dJ2_grow_2_44 (by first | exact Or.inl ⟨_, rfl⟩ | exact Or.inr ⟨_, rfl⟩) rfl [_] _ rfl (⟨a, rfl, ha, rfl⟩) (by omega)
theorem ctJ2_grow_2e {l : Launch} {g : jG} (hG : GS l g) (bg : va_W) {q mn : Nat} {m : Int32} (h2 : mn < 2 ^ 17) : KJ2_grow_2 l g 4 (max 10 mn / 12 + 1) [.ref q, .int (nI mn)] bg [[(q, alO m (jad g 0) 0)]] (fun v wd => ∃ a, v = some (.ref a) ∧ jB g ≤ a ∧ wd = [[(q, alO m a 0), (a, eQ g 3 (max 10 mn) (fun _ => none))]]) := by
  refine Ctr.of [some (.ref q), some (.int (nI mn)), none, none] hG (by decide +kernel) rfl (Nat.le_of_ble_eq_true rfl) (fun Y hl hN0 o r hI => ?_)
  subst hl
  have hN : ∀ i, i < 4 → i < yN Y := fun i h => by rw [hN0]; exact h
  refine j_ald_n o dJ2_grow_2_0 rfl rfl (q := 1) rfl ?_
  refine j_gf o dJ2_grow_2_1 (jw 0 0 rfl rfl) kcJ2 1 (Nat.le_of_ble_eq_true rfl) q147 rfl (q := 4) rfl ?_
  refine j_tlen o dJ2_grow_2_4 (o.emp (Or.inl rfl)) (q := 5) rfl ?_
  refine j_ist2 o dJ2_grow_2_5 rfl (hN 2 (Nat.le_of_ble_eq_true rfl)) (q := 6) rfl ?_
  refine j_ild_n o dJ2_grow_2_6 rfl (q := 7) rfl ?_
  refine j_ifgtF o (t := 20) dJ2_grow_2_7 (by decide) (q := 10) rfl (by decide) ?_
  refine j_ald_n o dJ2_grow_2_10 rfl rfl (q := 11) rfl ?_
  refine j_gf o dJ2_grow_2_11 (jw 0 0 rfl rfl) kcJ2 1 (Nat.le_of_ble_eq_true rfl) q147 rfl (q := 14) rfl ?_
  refine j_gs o dJ2_grow_2_14 o.kf.1 q145 (q := 17) rfl ?_
  refine j_aceqT (rx := some _) (ry := some _) o 45 dJ2_grow_2_17 (by decide) rfl ?_
  refine j_ald_n o dJ2_grow_2_45 rfl rfl (q := 46) rfl ?_
  refine j_bipush o (nI 10) dJ2_grow_2_46 (by decide) (q := 48) rfl ?_
  refine j_ild_n o dJ2_grow_2_48 rfl (q := 49) rfl ?_
  refine j_mmax o dJ2_grow_2_49 q287 (by omega) (by omega) (Nat.le_of_ble_eq_true rfl) (by omega) (Nat.le_of_ble_eq_true rfl) (q := 52) rfl ?_
  refine j_newQ o 3 (max 10 mn / 12 + 1) dJ2_grow_2_52 q288 q279 rfl (by omega) (by omega) (by omega) (q := 55) rfl (fun a ha => ?_)
  refine j_dup_x1 o dJ2_grow_2_55 rfl rfl (q := 56) rfl ?_
  refine j_pf o dJ2_grow_2_56 1 0 rfl rfl kcJ2 1 (Nat.le_of_ble_eq_true rfl) q147 rfl rfl rfl (Nat.le_of_ble_eq_true rfl) (q := 59) rfl ?_
  dsimp only [List.set]
  refine j_pm [[(q, alO m a 0), (a, eQ g 3 (max 10 mn) (fun _ => none))]] (List.Perm.swap _ _ _) ?_
  exact j_aret o r dJ2_grow_2_59 (by first | exact Or.inl ⟨_, rfl⟩ | exact Or.inr ⟨_, rfl⟩) rfl [_] _ rfl (⟨a, rfl, ha, rfl⟩) (by omega)
theorem ctJ2_grow {l : Launch} {g : jG} (hG : GS l g) (bg : va_W) {q b n cap : Nat} {m : Int32} {xs : List Nat} (hel : ∀ x ∈ xs, jElB g bg x) (hx : xs.length ≤ cap) (h0 : 10 ≤ cap) (h1 : cap = n) (h2 : n + 1 < 2 ^ 17) : KJ2_grow l g 5 (gcap n (n + 1) / 12 + 1) [.ref q] bg [[(q, alO m b n), (b, eQ g 3 cap (fun i => xs[i]?))]] (fun v wd => ∃ a, v = some (.ref a) ∧ jB g ≤ a ∧ wd = [[(q, alO m a n), (a, eQ g 3 (gcap n (n + 1)) (fun i => xs[i]?))]]) := by
  subst h1
  refine Ctr.of [some (.ref q)] hG (by decide +kernel) rfl (Nat.le_of_ble_eq_true rfl) (fun Y hl hN0 o r hI => ?_)
  subst hl
  have hN : ∀ i, i < 1 → i < yN Y := fun i h => by rw [hN0]; exact h
  refine j_ald_n o dJ2_grow_0 rfl rfl (q := 1) rfl ?_
  refine j_ald_n o dJ2_grow_1 rfl rfl (q := 2) rfl ?_
  refine j_gf o dJ2_grow_2 (jw 0 0 rfl rfl) kcJ2 2 (Nat.le_of_ble_eq_true rfl) q150 rfl (q := 5) rfl ?_
  refine j_iconst o (nI 1) dJ2_grow_5 (by decide) (q := 6) rfl ?_
  refine j_iadd o dJ2_grow_6 (q := 7) rfl ?_
  refine j_topi o (nI (cap + 1)) (nI_1 _) ?_
  refine j_callV1 o (ctJ2_grow_2 hG _ (fun x hx => (hel x hx).mono (fun _ => jmr)) hx h0 (mn := cap + 1) (by omega) h2) dJ2_grow_7 q230 wdJ2_grow_2 mdJ2_grow_2 (jw 0 0 rfl rfl) (by rfl) (by rfl) rfl (Nat.le_of_ble_eq_true rfl) (Nat.le_of_ble_eq_true rfl) (by omega) (Nat.le_of_ble_eq_true rfl) (q := 10) rfl (fun v wd hpost => ?_)
  obtain ⟨a, rfl, ha, rfl⟩ := hpost
  dsimp only [List.cons_append, List.nil_append, Option.toList]
  exact j_aret o r dJ2_grow_10 (by first | exact Or.inl ⟨_, rfl⟩ | exact Or.inr ⟨_, rfl⟩) rfl [_] _ rfl (⟨a, rfl, ha, rfl⟩) (by omega)
theorem ctJ2_growe {l : Launch} {g : jG} (hG : GS l g) (bg : va_W) {q : Nat} {m : Int32} : KJ2_grow l g 5 1 [.ref q] bg [[(q, alO m (jad g 0) 0)]] (fun v wd => ∃ a, v = some (.ref a) ∧ jB g ≤ a ∧ wd = [[(q, alO m a 0), (a, eQ g 3 10 (fun _ => none))]]) := by
  refine Ctr.of [some (.ref q)] hG (by decide +kernel) rfl (Nat.le_of_ble_eq_true rfl) (fun Y hl hN0 o r hI => ?_)
  subst hl
  have hN : ∀ i, i < 1 → i < yN Y := fun i h => by rw [hN0]; exact h
  refine j_ald_n o dJ2_grow_0 rfl rfl (q := 1) rfl ?_
  refine j_ald_n o dJ2_grow_1 rfl rfl (q := 2) rfl ?_
  refine j_gf o dJ2_grow_2 (jw 0 0 rfl rfl) kcJ2 2 (Nat.le_of_ble_eq_true rfl) q150 rfl (q := 5) rfl ?_
  refine j_iconst o (nI 1) dJ2_grow_5 (by decide) (q := 6) rfl ?_
  refine j_iadd o dJ2_grow_6 (q := 7) rfl ?_
  refine j_topi o (nI 1) (nI_1 0) ?_
  refine j_callV1 o (ctJ2_grow_2e hG _ (mn := 1) (by omega)) dJ2_grow_7 q230 wdJ2_grow_2 mdJ2_grow_2 (jw 0 0 rfl rfl) (by rfl) (by rfl) rfl (Nat.le_of_ble_eq_true rfl) (Nat.le_of_ble_eq_true rfl) (by omega) (Nat.le_of_ble_eq_true rfl) (q := 10) rfl (fun v wd hpost => ?_)
  obtain ⟨a, rfl, ha, rfl⟩ := hpost
  dsimp only [List.cons_append, List.nil_append, Option.toList]
  exact j_aret o r dJ2_grow_10 (by first | exact Or.inl ⟨_, rfl⟩ | exact Or.inr ⟨_, rfl⟩) rfl [_] _ rfl (⟨a, rfl, ha, rfl⟩) (by omega)
/-- units of adding to a list of n -/
def uAdd (n : Nat) : Nat := if n = 0 then 1 else if n < 10 then 0 else (n + n / 2) / 12 + 1
theorem upx {xs : List Nat} {x : Nat} : va_up (fun i => xs[i]?) xs.length (some x) = fun i => (xs ++ [x])[i]? := by
  funext i
  show (if i = xs.length then some x else xs[i]?) = (xs ++ [x])[i]?
  by_cases h : i = xs.length
  · subst h; simp
  · rw [if_neg h]
    by_cases h2 : i < xs.length
    · rw [List.getElem?_append_left h2]
    · rw [List.getElem?_eq_none (by omega), List.getElem?_eq_none (by simp; omega)]
theorem ctJ2_add_2 {l : Launch} {g : jG} (hG : GS l g) (bg : va_W) {q b x : Nat} {m : Int32} {xs : List Nat} {w : va_W} (hA : ALx g q m b xs w) (hel : ∀ y ∈ xs, jElB g bg y) (hx : jElB g bg x) (hn : xs.length < 2 ^ 16) : KJ2_add_2 l g 6 (uAdd xs.length) [.ref q, .ref x, .ref b, .int (nI xs.length)] bg [w] (fun v wd => v = none ∧ ∃ b2 w2, wd = [w2] ∧ ALx g q m b2 (xs ++ [x]) w2) := by
  rcases hA with ⟨cap, rfl, h1, h2, h3⟩ | ⟨rfl, rfl, rfl⟩
  · refine Ctr.of [some (.ref q), some (.ref x), some (.ref b), some (.int (nI xs.length))] hG (by decide +kernel) rfl (Nat.le_of_ble_eq_true rfl) (fun Y hl hN0 o r hI => ?_)
    subst hl
    have hN : ∀ i, i < 4 → i < yN Y := fun i h => by rw [hN0]; exact h
    refine j_ild_n o dJ2_add_2_0 rfl (q := 1) rfl ?_
    refine j_ald_n o dJ2_add_2_1 rfl rfl (q := 2) rfl ?_
    refine j_alen o dJ2_add_2_2 (jw 0 1 rfl rfl) rfl rfl (q := 3) rfl ?_
    refine j_icne o 11 dJ2_add_2_3 (by decide) (q := 6) rfl (fun c => ?_) (fun c => ?_)
    · rw [nI_eq (by omega) (by omega)] at c
      refine j_units (u2 := uAdd xs.length) (Nat.zero_le _) ?_
      refine j_ald_n o dJ2_add_2_11 rfl rfl (q := 12) rfl ?_
      refine j_ild_n o dJ2_add_2_12 rfl (q := 13) rfl ?_
      refine j_ald_n o dJ2_add_2_13 rfl rfl (q := 14) rfl ?_
      refine j_aastE o dJ2_add_2_14 0 1 rfl rfl hx.el (by omega) (by omega) (q := 15) rfl ?_
      dsimp only [List.set]
      rw [upx]
      refine j_ald_n o dJ2_add_2_15 rfl rfl (q := 16) rfl ?_
      refine j_ild_n o dJ2_add_2_16 rfl (q := 17) rfl ?_
      refine j_iconst o (nI 1) dJ2_add_2_17 (by decide) (q := 18) rfl ?_
      refine j_iadd o dJ2_add_2_18 (q := 19) rfl ?_
      refine j_topi o (nI (xs.length + 1)) (nI_1 _) ?_
      refine j_pf o dJ2_add_2_19 0 0 rfl rfl kcJ2 2 (Nat.le_of_ble_eq_true rfl) q150 rfl rfl rfl (Nat.le_of_ble_eq_true rfl) (q := 22) rfl ?_
      dsimp only [List.set]
      exact j_vret o r dJ2_add_2_22 [_] _ rfl (⟨rfl, b, _, rfl, Or.inl ⟨cap, by simp, by simp; omega, h2, h3⟩⟩) (by omega)
    · rw [nI_eq (by omega) (by omega)] at c
      have hu : uAdd xs.length = gcap xs.length (xs.length + 1) / 12 + 1 := by unfold uAdd gcap; rw [if_neg (by omega), if_neg (by omega)]; omega
      refine j_ald_n o dJ2_add_2_6 rfl rfl (q := 7) rfl ?_
      refine j_callV1 o (ctJ2_grow hG _ (fun y hy => (hel y hy).mono (fun _ => jmr)) (by omega) h2 c.symm (by omega)) dJ2_add_2_7 q226 wdJ2_grow mdJ2_grow (jw 0 0 rfl rfl) (by rfl) (by rfl) rfl (Nat.le_of_ble_eq_true rfl) (Nat.le_of_ble_eq_true rfl) (by omega) (Nat.le_of_ble_eq_true rfl) (q := 10) rfl (fun v wd hpost => ?_)
      obtain ⟨a, rfl, ha, rfl⟩ := hpost
      dsimp only [List.cons_append, List.nil_append, Option.toList]
      have hg : xs.length < gcap xs.length (xs.length + 1) := by unfold gcap; omega
      have hg3 : gcap xs.length (xs.length + 1) < 2 ^ 18 := by unfold gcap; omega
      refine j_ast2 o dJ2_add_2_10 rfl rfl (hN 2 (Nat.le_of_ble_eq_true rfl)) (q := 11) rfl ?_
      refine j_ald_n o dJ2_add_2_11 rfl rfl (q := 12) rfl ?_
      refine j_ild_n o dJ2_add_2_12 rfl (q := 13) rfl ?_
      refine j_ald_n o dJ2_add_2_13 rfl rfl (q := 14) rfl ?_
      refine j_aastE o dJ2_add_2_14 0 1 rfl rfl hx.el hg (by omega) (q := 15) rfl ?_
      dsimp only [List.set]
      rw [upx]
      refine j_ald_n o dJ2_add_2_15 rfl rfl (q := 16) rfl ?_
      refine j_ild_n o dJ2_add_2_16 rfl (q := 17) rfl ?_
      refine j_iconst o (nI 1) dJ2_add_2_17 (by decide) (q := 18) rfl ?_
      refine j_iadd o dJ2_add_2_18 (q := 19) rfl ?_
      refine j_topi o (nI (xs.length + 1)) (nI_1 _) ?_
      refine j_pf o dJ2_add_2_19 0 0 rfl rfl kcJ2 2 (Nat.le_of_ble_eq_true rfl) q150 rfl rfl rfl (Nat.le_of_ble_eq_true rfl) (q := 22) rfl ?_
      dsimp only [List.set]
      exact j_vret o r dJ2_add_2_22 [_] _ rfl (⟨rfl, a, _, rfl, Or.inl ⟨gcap xs.length (xs.length + 1), by simp, by simp; omega, by omega, hg3⟩⟩) (by omega)
  · refine Ctr.of [some (.ref q), some (.ref x), some (.ref (jad g 0)), some (.int (nI 0))] hG (by decide +kernel) rfl (Nat.le_of_ble_eq_true rfl) (fun Y hl hN0 o r hI => ?_)
    subst hl
    have hN : ∀ i, i < 4 → i < yN Y := fun i h => by rw [hN0]; exact h
    refine j_ild_n o dJ2_add_2_0 rfl (q := 1) rfl ?_
    refine j_ald_n o dJ2_add_2_1 rfl rfl (q := 2) rfl ?_
    refine j_tlen o dJ2_add_2_2 (o.emp (Or.inl rfl)) (q := 3) rfl ?_
    refine j_icneF o (t := 11) dJ2_add_2_3 (by decide) (q := 6) rfl rfl ?_
    refine j_ald_n o dJ2_add_2_6 rfl rfl (q := 7) rfl ?_
    refine j_callV1 o (ctJ2_growe hG _) dJ2_add_2_7 q226 wdJ2_grow mdJ2_grow (jw 0 0 rfl rfl) (by rfl) (by rfl) rfl (Nat.le_of_ble_eq_true rfl) (Nat.le_of_ble_eq_true rfl) (by decide) (Nat.le_of_ble_eq_true rfl) (q := 10) rfl (fun v wd hpost => ?_)
    obtain ⟨a, rfl, ha, rfl⟩ := hpost
    dsimp only [List.cons_append, List.nil_append, Option.toList]
    refine j_ast2 o dJ2_add_2_10 rfl rfl (hN 2 (Nat.le_of_ble_eq_true rfl)) (q := 11) rfl ?_
    refine j_ald_n o dJ2_add_2_11 rfl rfl (q := 12) rfl ?_
    refine j_ild_n o dJ2_add_2_12 rfl (q := 13) rfl ?_
    refine j_ald_n o dJ2_add_2_13 rfl rfl (q := 14) rfl ?_
    refine j_aastE o dJ2_add_2_14 0 1 rfl rfl hx.el (by omega) (by omega) (q := 15) rfl ?_
    dsimp only [List.set]
    refine j_ald_n o dJ2_add_2_15 rfl rfl (q := 16) rfl ?_
    refine j_ild_n o dJ2_add_2_16 rfl (q := 17) rfl ?_
    refine j_iconst o (nI 1) dJ2_add_2_17 (by decide) (q := 18) rfl ?_
    refine j_iadd o dJ2_add_2_18 (q := 19) rfl ?_
    refine j_topi o (nI 1) (nI_1 0) ?_
    refine j_pf o dJ2_add_2_19 0 0 rfl rfl kcJ2 2 (Nat.le_of_ble_eq_true rfl) q150 rfl rfl rfl (Nat.le_of_ble_eq_true rfl) (q := 22) rfl ?_
    dsimp only [List.set]
    exact j_vret o r dJ2_add_2_22 [_] _ rfl (⟨rfl, a, _, rfl, Or.inl ⟨10, by have e := upx (xs := []) (x := x); simp only [List.length_nil, List.nil_append, List.getElem?_nil] at e; rw [e]; rfl, by simp, by omega, by omega⟩⟩) (by decide)
theorem ctJ2_add {l : Launch} {g : jG} (hG : GS l g) (bg : va_W) {q x : Nat} {xs : List Nat} {w : va_W} (hA : AL g q xs w) (hel : ∀ y ∈ xs, jElB g bg y) (hx : jElB g bg x) (hn : xs.length < 2 ^ 16) : KJ2_add l g 7 (uAdd xs.length) [.ref q, .ref x] bg [w] (fun v wd => v = some (.int 1) ∧ ∃ w2, wd = [w2] ∧ AL g q (xs ++ [x]) w2) := by
  obtain ⟨m, b, hA⟩ := hA
  obtain ⟨t, rfl, hA2⟩ := hA.head
  refine Ctr.of [some (.ref q), some (.ref x)] hG (by decide +kernel) rfl (Nat.le_of_ble_eq_true rfl) (fun Y hl hN0 o r hI => ?_)
  subst hl
  have hN : ∀ i, i < 2 → i < yN Y := fun i h => by rw [hN0]; exact h
  refine j_ald_n o dJ2_add_0 rfl rfl (q := 1) rfl ?_
  refine j_dup o dJ2_add_1 rfl (q := 2) rfl ?_
  refine j_gfI o dJ2_add_2 (jw 0 0 rfl rfl) kcJ2 0 (Nat.le_of_ble_eq_true rfl) q154 q153 rfl (q := 5) rfl ?_
  refine j_iconst o (nI 1) dJ2_add_5 (by decide) (q := 6) rfl ?_
  refine j_iadd o dJ2_add_6 (q := 7) rfl ?_
  refine j_pfI o dJ2_add_7 0 0 rfl rfl kcJ2 0 (Nat.le_of_ble_eq_true rfl) q154 q153 rfl rfl rfl (Nat.le_of_ble_eq_true rfl) (q := 10) rfl ?_
  dsimp only [List.set]
  refine j_ald_n o dJ2_add_10 rfl rfl (q := 11) rfl ?_
  refine j_ald_n o dJ2_add_11 rfl rfl (q := 12) rfl ?_
  refine j_ald_n o dJ2_add_12 rfl rfl (q := 13) rfl ?_
  refine j_gf o dJ2_add_13 (jw 0 0 rfl rfl) kcJ2 1 (Nat.le_of_ble_eq_true rfl) q147 rfl (q := 16) rfl ?_
  refine j_ald_n o dJ2_add_16 rfl rfl (q := 17) rfl ?_
  refine j_gf o dJ2_add_17 (jw 0 0 rfl rfl) kcJ2 2 (Nat.le_of_ble_eq_true rfl) q150 rfl (q := 20) rfl ?_
  refine j_callV1 o (ctJ2_add_2 hG _ (hA2 (m + nI 1)) (fun y hy => (hel y hy).mono (fun _ => jmr)) (hx.mono (fun _ => jmr)) hn) dJ2_add_20 q222 wdJ2_add_2 mdJ2_add_2 (jw 0 0 rfl rfl) (by rfl) (by rfl) rfl (Nat.le_of_ble_eq_true rfl) (Nat.le_of_ble_eq_true rfl) (by omega) (Nat.le_of_ble_eq_true rfl) (q := 23) rfl (fun v wd hpost => ?_)
  obtain ⟨rfl, b2, w2, rfl, hA3⟩ := hpost
  dsimp only [List.cons_append, List.nil_append, Option.toList]
  refine j_iconst o (nI 1) dJ2_add_23 (by decide) (q := 24) rfl ?_
  exact j_ret o r dJ2_add_24 rfl [_] _ rfl (⟨rfl, w2, rfl, _, _, hA3⟩) (by omega)
