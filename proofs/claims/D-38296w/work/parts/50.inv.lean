/-! PURE: what holds of a file all along -/
set_option maxRecDepth 100000
theorem mod_two {h b : Nat} (hb : 0 < b) : h % (2 * b) = h % b ∨ h % (2 * b) = h % b + b := by
  have h4 : h % (2 * b) % b = h % b := Nat.mod_mod_of_dvd _ ⟨2, by omega⟩
  have h5 : h % (2 * b) < 2 * b := Nat.mod_lt _ (by omega)
  rcases Nat.lt_or_ge (h % (2 * b)) b with h6 | h6
  · left; rw [← h4, Nat.mod_eq_of_lt h6]
  · right
    rw [Nat.mod_eq_sub_mod h6, Nat.mod_eq_of_lt (by omega)] at h4
    omega
theorem bse_up2 {n : Nat} (hn : 2 ≤ n) : (ptr n + 1 = bse n → bse (n + 1) = 2 * bse n ∧ ptr (n + 1) = 0) ∧ (ptr n + 1 ≠ bse n → bse (n + 1) = bse n ∧ ptr (n + 1) = ptr n + 1) := by
  obtain ⟨h1, h2⟩ := bse_up hn
  have e1 := bse_lvl hn
  have e2 := bse_lvl (n := n + 1) (by omega)
  refine ⟨fun h => ?_, fun h => ?_⟩
  · obtain ⟨a1, a2⟩ := h1 h
    refine ⟨?_, a2⟩
    rw [← e2, a1, Nat.pow_succ, ← e1]
    omega
  · obtain ⟨a1, a2⟩ := h2 h
    refine ⟨?_, a2⟩
    rw [← e2, a1, e1]
theorem adr_up {n h : Nat} (hn : 2 ≤ n) (hp : adr n h ≠ ptr n) : adr (n + 1) h = adr n h := by
  obtain ⟨h1, h2⟩ := bse_up2 hn
  have hx := Nat.mod_lt h (bse_pos n)
  unfold adr at hp ⊢
  by_cases hc : ptr n + 1 = bse n
  · obtain ⟨a1, a2⟩ := h1 hc
    rw [a1, a2, if_neg (by omega)]
    split at hp
    · rename_i h3; rw [if_pos h3]
    · omega
  · obtain ⟨a1, a2⟩ := h2 hc
    rw [a1, a2]
    split at hp
    · rename_i h3; rw [if_pos h3, if_pos (by omega)]
    · rename_i h3; rw [if_neg h3, if_neg (by omega)]
theorem adr_dn {m h : Nat} (hm : 2 ≤ m) (hp : adr (m + 1) h ≠ m) : adr m h = adr (m + 1) h := by
  by_cases hc : adr m h = ptr m
  · obtain ⟨h1, h2⟩ := bse_up2 hm
    have hx := Nat.mod_lt h (bse_pos m)
    have hb := bse_ptr (n := m) (by omega)
    have h2b := mod_two (h := h) (bse_pos m)
    have hpl := ptr_lt (n := m) (by omega)
    have hxp : h % bse m = ptr m := by
      unfold adr at hc
      split at hc <;> omega
    have e : adr (m + 1) h = h % (2 * bse m) := by
      unfold adr
      by_cases hc2 : ptr m + 1 = bse m
      · obtain ⟨a1, a2⟩ := h1 hc2
        rw [a1, a2, if_neg (by omega)]
      · obtain ⟨a1, a2⟩ := h2 hc2
        rw [a1, a2, if_pos (by omega)]
    rw [e] at hp ⊢
    omega
  · exact (adr_up hm hc).symm
def inK (B : List Bkt) (k : Nat) : Prop := ∃ (i : Nat) (b : Bkt), B[i]? = some b ∧ k ∈ b.1.map (·.1)
/-- rows where they belong, marked, once -/
def adOk (ch sd : Nat) (B : List Bkt) : Prop := (∀ (i : Nat) (b : Bkt), B[i]? = some b → (∀ r ∈ b.1, r.1 < 10000 ∧ r.2 < 10000 ∧ adr B.length (hsh ch sd r.1) = i ∧ b.2.2 &&& mrk (hsh ch sd r.1) = mrk (hsh ch sd r.1)) ∧ (b.1.map (·.1)).Nodup)
def Inv (cap ch sd : Nat) (B : List Bkt) : Prop := fits cap B 0 ∧ adOk ch sd B
theorem or_has {a x m : Nat} (h : a &&& m = m) : (a ||| x) &&& m = m := by
  apply Nat.eq_of_testBit_eq
  intro i
  have := congrArg (fun z => Nat.testBit z i) h
  simp only [Nat.testBit_and, Nat.testBit_or] at this ⊢
  cases ha : a.testBit i <;> cases hx : x.testBit i <;> cases hm : m.testBit i <;> simp_all
theorem or_self {a m : Nat} : (a ||| m) &&& m = m := by
  apply Nat.eq_of_testBit_eq
  intro i
  simp only [Nat.testBit_and, Nat.testBit_or]
  cases ha : a.testBit i <;> cases hm : m.testBit i <;> simp_all
theorem adOk.set {ch sd i : Nat} {B : List Bkt} {b2 : Bkt} (h : adOk ch sd B) (h1 : ∀ r ∈ b2.1, r.1 < 10000 ∧ r.2 < 10000 ∧ adr B.length (hsh ch sd r.1) = i ∧ b2.2.2 &&& mrk (hsh ch sd r.1) = mrk (hsh ch sd r.1)) (h2 : (b2.1.map (·.1)).Nodup) : adOk ch sd (B.set i b2) := by
  intro j b hb
  rw [List.length_set]
  by_cases hj : j = i
  · subst hj
    have := get_lt hb
    simp at this
    rw [List.getElem?_set_self this] at hb
    cases hb
    exact ⟨h1, h2⟩
  · rw [List.getElem?_set_ne (fun e => hj e.symm)] at hb
    exact h j b hb
theorem adOk.noK {ch sd k : Nat} {B : List Bkt} (h : adOk ch sd B) (hk : k ∉ (bAt B (adr B.length (hsh ch sd k))).1.map (·.1)) : ¬ inK B k := by
  rintro ⟨i, b, h1, h2⟩
  obtain ⟨r, hr, rfl⟩ := List.mem_map.mp h2
  have h3 := ((h i b h1).1 r hr).2.2.1
  rw [h3, bAt_get h1] at hk
  exact hk h2
theorem adOk.app {cap ch sd : Nat} {B : List Bkt} (h : adOk ch sd B) (hn : 2 ≤ B.length) {r : Row} (hr : r.1 < 10000 ∧ r.2 < 10000) (hk : ¬ inK B r.1) : adOk ch sd (fApp cap ch sd B r) := by
  have hi : adr B.length (hsh ch sd r.1) < B.length := adr_lt (by omega)
  have hB := bAt_ex hi
  obtain ⟨h1, h2⟩ := h _ _ hB
  refine h.set (fun x hx => ?_) ?_
  · rcases List.mem_append.mp hx with hx | hx
    · obtain ⟨a1, a2, a3, a4⟩ := h1 x hx
      exact ⟨a1, a2, a3, or_has a4⟩
    · rw [List.mem_singleton.mp hx]
      exact ⟨hr.1, hr.2, rfl, or_self⟩
  · show (((bAt B _).1 ++ [r]).map (·.1)).Nodup
    rw [List.map_append, List.nodup_append]
    refine ⟨h2, by simp, ?_⟩
    intro a ha b hb
    simp at hb
    intro e
    have e2 : a = r.1 := e.trans hb
    rw [e2] at ha
    exact hk ⟨_, _, hB, ha⟩
theorem inK_app {cap ch sd k : Nat} {B : List Bkt} {r : Row} (h : inK (fApp cap ch sd B r) k) : inK B k ∨ k = r.1 := by
  obtain ⟨i, b, h1, h2⟩ := h
  unfold fApp at h1
  by_cases hi : i = adr B.length (hsh ch sd r.1)
  · have hl := get_lt h1
    simp at hl
    subst hi
    rw [List.getElem?_set_self hl] at h1
    cases h1
    simp only [apB, List.map_append, List.mem_append, List.map_cons, List.map_nil, List.mem_singleton] at h2
    rcases h2 with h2 | h2
    · exact Or.inl ⟨_, _, bAt_ex hl, h2⟩
    · exact Or.inr h2
  · rw [List.getElem?_set_ne (fun e => hi e.symm)] at h1
    exact Or.inl ⟨i, b, h1, h2⟩
theorem Inv_all {cap ch sd : Nat} : ∀ {rs : List Row} {B : List Bkt}, fits cap B rs.length → adOk ch sd B → (∀ r ∈ rs, r.1 < 10000 ∧ r.2 < 10000) → (∀ r ∈ rs, ¬ inK B r.1) → (rs.map (·.1)).Nodup → Inv cap ch sd (apAll cap ch sd B rs) ∧ (apAll cap ch sd B rs).length = B.length ∧ rws (apAll cap ch sd B rs) = rws B + rs.length := by
  intro rs
  induction rs with
  | nil => intro B h1 h2 _ _ _; exact ⟨⟨h1, h2⟩, rfl, rfl⟩
  | cons r rs ih =>
    intro B h1 h2 h3 h4 h5
    have hi : adr B.length (hsh ch sd r.1) < B.length := adr_lt (by have := h1.2.2.1; omega)
    have h6 := h2.app (cap := cap) h1.2.2.1 (h3 r (by simp)) (h4 r (by simp))
    have h7 := List.nodup_cons.mp h5
    obtain ⟨a1, a2, a3⟩ := ih (B := fApp cap ch sd B r) (h1.app r) h6 (fun x hx => h3 x (by simp [hx])) (fun x hx hk => by
      rcases inK_app hk with hk | hk
      · exact h4 x (by simp [hx]) hk
      · exact h7.1 (List.mem_map.mpr ⟨x, hx, hk⟩)) h7.2
    refine ⟨a1, by rw [fApp_len] at a2; exact a2, ?_⟩
    have a3 : rws (apAll cap ch sd B (r :: rs)) = rws (fApp cap ch sd B r) + rs.length := a3
    have hr := rws_set (b := apB cap ch sd (usd B) (bAt B (adr B.length (hsh ch sd r.1))) r) hi
    have e : (apB cap ch sd (usd B) (bAt B (adr B.length (hsh ch sd r.1))) r).1.length = (bAt B (adr B.length (hsh ch sd r.1))).1.length + 1 := by simp [apB]
    have hr2 : rws (fApp cap ch sd B r) + (bAt B (adr B.length (hsh ch sd r.1))).1.length = rws B + (apB cap ch sd (usd B) (bAt B (adr B.length (hsh ch sd r.1))) r).1.length := hr
    rw [a3, List.length_cons]
    omega
theorem ptr_in {n : Nat} (h : 2 ≤ n) : ptr n < n := by
  have := bse_ptr (n := n) (by omega)
  have := bse_pos n
  omega
/-- the bucket's rows, of which others have none -/
theorem adOk.own {ch sd i : Nat} {B : List Bkt} (h : adOk ch sd B) (hi : i < B.length) : (∀ r ∈ (bAt B i).1, r.1 < 10000 ∧ r.2 < 10000) ∧ ((bAt B i).1.map (·.1)).Nodup ∧ ∀ r ∈ (bAt B i).1, ∀ (j : Nat) (b : Bkt), j ≠ i → B[j]? = some b → r.1 ∉ b.1.map (·.1) := by
  have hB := bAt_ex hi
  obtain ⟨h1, h2⟩ := h _ _ hB
  refine ⟨fun r hr => ⟨(h1 r hr).1, (h1 r hr).2.1⟩, h2, fun r hr j b hj hb hm => ?_⟩
  obtain ⟨x, hx, hx2⟩ := List.mem_map.mp hm
  have a := (h1 r hr).2.2.1
  have c := ((h j b hb).1 x hx).2.2.1
  rw [hx2] at c
  exact hj (c.symm.trans a)
theorem Inv.spl {cap ch sd : Nat} {B : List Bkt} (h : Inv cap ch sd B) (h9 : B.length < 60) : Inv cap ch sd (splB cap ch sd B) ∧ (splB cap ch sd B).length = B.length + 1 ∧ rws (splB cap ch sd B) = rws B := by
  obtain ⟨hf, ha⟩ := h
  have h2 := hf.2.2.1
  have hi := ptr_in h2
  have hB := bAt_ex hi
  have hfe := hf.em hi
  have hfg := hfe.grown (by simpa using h9)
  have hl2 : (grw (B.set (ptr B.length) (emB (bAt B (ptr B.length))))).length = B.length + 1 := by simp [grw]
  obtain ⟨o1, o2, o3⟩ := ha.own hi
  have hadg : adOk ch sd (grw (B.set (ptr B.length) (emB (bAt B (ptr B.length))))) := by
    intro j b hb
    rw [hl2]
    rcases snoc_get hb with ⟨hj, hb⟩ | ⟨hj, rfl⟩
    · by_cases hji : j = ptr B.length
      · subst hji
        rw [List.getElem?_set_self hi] at hb
        cases hb
        exact ⟨fun r hr => by simp [emB] at hr, by simp [emB]⟩
      · rw [List.getElem?_set_ne (fun e => hji e.symm)] at hb
        obtain ⟨b1, b2⟩ := ha j b hb
        refine ⟨fun r hr => ?_, b2⟩
        obtain ⟨c1, c2, c3, c4⟩ := b1 r hr
        exact ⟨c1, c2, by rw [adr_up h2 (by rw [c3]; exact hji)]; exact c3, c4⟩
    · exact ⟨fun r hr => by simp at hr, by simp⟩
  have hno : ∀ r ∈ (bAt B (ptr B.length)).1, ¬ inK (grw (B.set (ptr B.length) (emB (bAt B (ptr B.length))))) r.1 := by
    rintro r hr ⟨j, b, hb, hm⟩
    rcases snoc_get hb with ⟨hj, hb⟩ | ⟨hj, rfl⟩
    · by_cases hji : j = ptr B.length
      · subst hji
        rw [List.getElem?_set_self hi] at hb
        cases hb
        simp [emB] at hm
      · rw [List.getElem?_set_ne (fun e => hji e.symm)] at hb
        exact o3 r hr j b hji hb hm
    · simp at hm
  obtain ⟨a1, a2, a3⟩ := Inv_all hfg hadg o1 hno o2
  refine ⟨a1, by rw [← hl2]; exact a2, ?_⟩
  have hr := rws_set (b := emB (bAt B (ptr B.length))) hi
  have e0 : (emB (bAt B (ptr B.length))).1.length = 0 := rfl
  have e1 : rws (grw (B.set (ptr B.length) (emB (bAt B (ptr B.length))))) = rws (B.set (ptr B.length) (emB (bAt B (ptr B.length)))) := by rw [grw, rws_snoc]; rfl
  have a3 : rws (splB cap ch sd B) = rws (grw (B.set (ptr B.length) (emB (bAt B (ptr B.length))))) + (bAt B (ptr B.length)).1.length := a3
  omega
theorem fold_has {ch sd : Nat} (rs : List Row) : ∀ (a m : Nat), a &&& m = m → rs.foldl (fun a r => a ||| mrk (hsh ch sd r.1)) a &&& m = m := by
  induction rs with
  | nil => intro a m h; exact h
  | cons r rs ih => intro a m h; exact ih _ m (or_has h)
theorem orf_has {ch sd : Nat} : ∀ (rs : List Row) (a : Nat), ∀ r ∈ rs, rs.foldl (fun a r => a ||| mrk (hsh ch sd r.1)) a &&& mrk (hsh ch sd r.1) = mrk (hsh ch sd r.1) := by
  intro rs
  induction rs with
  | nil => intro a r hr; simp at hr
  | cons x rs ih =>
    intro a r hr
    rcases List.mem_cons.mp hr with rfl | hr
    · exact fold_has rs _ _ or_self
    · exact ih _ r hr
theorem Inv.mrg {cap ch sd : Nat} {B0 : List Bkt} {b : Bkt} (h : Inv cap ch sd (B0 ++ [b])) (h2 : 2 ≤ B0.length) : Inv cap ch sd (mrgB cap ch sd (B0 ++ [b])) ∧ (mrgB cap ch sd (B0 ++ [b])).length = B0.length ∧ rws (mrgB cap ch sd (B0 ++ [b])) = rws (B0 ++ [b]) := by
  rw [mrgB_snoc]
  obtain ⟨hf, ha⟩ := h
  have f0 := hf.pop h2
  have hi := ptr_in h2
  have hB := bAt_ex hi
  have hfr := f0.reFl (ch := ch) (sd := sd) hi
  have hbl : bAt (B0 ++ [b]) B0.length = b := bAt_get (by simp)
  have hlen : (B0 ++ [b]).length = B0.length + 1 := by simp
  obtain ⟨o1, o2, o3⟩ := ha.own (i := B0.length) (by simp)
  rw [hbl] at o1 o2 o3
  have ha0 : adOk ch sd B0 := by
    intro j c hc
    have hj := get_lt hc
    obtain ⟨b1, b2⟩ := ha j c (by rw [List.getElem?_append_left hj]; exact hc)
    rw [hlen] at b1
    refine ⟨fun r hr => ?_, b2⟩
    obtain ⟨c1, c2, c3, c4⟩ := b1 r hr
    exact ⟨c1, c2, by rw [adr_dn h2 (by rw [c3]; omega)]; exact c3, c4⟩
  obtain ⟨b1, b2⟩ := ha0 _ _ hB
  have ha1 : adOk ch sd (B0.set (ptr B0.length) (reF ch sd (bAt B0 (ptr B0.length)))) := ha0.set (fun r hr => by
    obtain ⟨c1, c2, c3, c4⟩ := b1 r hr
    exact ⟨c1, c2, c3, orf_has _ _ r hr⟩) b2
  have hno : ∀ r ∈ b.1, ¬ inK (B0.set (ptr B0.length) (reF ch sd (bAt B0 (ptr B0.length)))) r.1 := by
    rintro r hr ⟨j, c, hc, hm⟩
    have hj := get_lt hc
    simp at hj
    by_cases hji : j = ptr B0.length
    · subst hji
      rw [List.getElem?_set_self hi] at hc
      cases hc
      exact o3 r hr (ptr B0.length) (bAt B0 (ptr B0.length)) (by omega) (by rw [List.getElem?_append_left hj]; exact hB) hm
    · rw [List.getElem?_set_ne (fun e => hji e.symm)] at hc
      exact o3 r hr j c (by omega) (by rw [List.getElem?_append_left hj]; exact hc) hm
  obtain ⟨a1, a2, a3⟩ := Inv_all (by simpa using hfr) ha1 o1 hno o2
  refine ⟨a1, by rw [a2]; simp, ?_⟩
  have hr := rws_set (b := reF ch sd (bAt B0 (ptr B0.length))) hi
  have e0 : (reF ch sd (bAt B0 (ptr B0.length))).1.length = (bAt B0 (ptr B0.length)).1.length := rfl
  rw [a3, rws_snoc]
  omega
