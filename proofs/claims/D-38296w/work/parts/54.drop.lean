/-! THE STORE, tenth: drop, pure and its heap -/
set_option maxRecDepth 100000
def isBkP (g : jG) (cap qb ch : Nat) (ps es pages : List Nat) (fl : Nat) (w : va_W) : Prop := ∃ wc wps, w.Perm ((qb, bkO ch fl) :: (wc ++ wps.flatten)) ∧ AL g ch ps wc ∧ isPgs g cap ps pages es wps
theorem isBk.p {g : jG} {cap qb fl : Nat} {es pages : List Nat} {w : va_W} (h : isBk g cap qb es pages fl w) : ∃ ch ps, isBkP g cap qb ch ps es pages fl w := by
  obtain ⟨ch, wc, ps, wps, h1, h2, h3⟩ := h
  exact ⟨ch, ps, wc, wps, h1, h2, h3⟩
theorem isBkP.k {g : jG} {cap qb ch fl : Nat} {ps es pages : List Nat} {w : va_W} (h : isBkP g cap qb ch ps es pages fl w) : isBk g cap qb es pages fl w := by
  obtain ⟨wc, wps, h1, h2, h3⟩ := h
  exact ⟨ch, wc, ps, wps, h1, h2, h3⟩
theorem isBkP.r {g : jG} {cap qb ch fl : Nat} {ps es pages : List Nat} {w S : va_W} (h : isBkP g cap qb ch ps es pages fl w) (hs : ∀ c ∈ w, c ∈ S) : (qb, bkO ch fl) ∈ S ∧ ALR g S ch ps ∧ pgsR g S cap ps pages es := by
  obtain ⟨wc, wps, hp, hA, hP⟩ := h
  exact ⟨hs _ (hp.mem_iff.mpr (by simp)), hA.r (fun c hc => hs c (hp.mem_iff.mpr (by simp [hc]))), hP.r (fun c hc => hs c (hp.mem_iff.mpr (List.mem_cons_of_mem _ (List.mem_append_right _ hc))))⟩
theorem isBkP_page {g : jG} {cap qb ch fl j p : Nat} {ps es pages : List Nat} {w : va_W} (h : isBkP g cap qb ch ps es pages fl w) (hp1 : ps[j]? = some p) : ∃ wc n rl wl R, w.Perm (jflat [[(qb, bkO ch fl)], wc, [(p, pgO n rl)], wl, R]) ∧ pages[j]? = some n ∧ AL g ch ps wc ∧ AL g rl (pgE cap es j) wl ∧ ∀ es2 fl2 wl2 w2, AL g rl (pgE cap es2 j) wl2 → (∀ i, i < pages.length → i ≠ j → pgE cap es2 i = pgE cap es i) → w2.Perm (jflat [[(qb, bkO ch fl2)], wc, [(p, pgO n rl)], wl2, R]) → isBkP g cap qb ch ps es2 pages fl2 w2 := by
  obtain ⟨wc, wps, hp, hC, hl1, hl2, hP⟩ := h
  have hj := get_lt hp1
  obtain ⟨n, hn1⟩ := get_ex (xs := pages) (i := j) (by omega)
  obtain ⟨wp, hw1⟩ := get_ex (xs := wps) (i := j) (by omega)
  obtain ⟨rl, wl, rfl, hA⟩ := hP j p n wp hp1 hn1 hw1
  refine ⟨wc, n, rl, wl, (wps.eraseIdx j).flatten, ?_, hn1, hC, hA, ?_⟩
  · have h2 := fl_erase wps j _ hw1
    exact (by letI : DecidableEq (Nat × va_E) := fun _ _ => Classical.propDecidable _; exact List.perm_iff_count.mpr (fun a_ => by have e0_ := List.Perm.count_eq (hp) a_; have e1_ := List.Perm.count_eq (h2) a_; simp only [List.flatten_cons, List.flatten_nil, jflat, List.cons_append, List.nil_append, List.count_append, List.count_cons, List.append_nil, List.count_nil, List.flatten_append, bkO, pgO, stO, eO, tkO, eA] at e0_ e1_ ⊢; omega))
  · intro es2 fl2 wl2 w2 hA2 hsame hp2
    refine ⟨wc, wps.set j ((p, pgO n rl) :: wl2), ?_, hC, hl1, by simpa using hl2, fun i p2 n2 wi a1 a2 a3 => ?_⟩
    · have h3 := fl_set wps j ((p, pgO n rl) :: wl2) (by omega)
      exact (by letI : DecidableEq (Nat × va_E) := fun _ _ => Classical.propDecidable _; exact List.perm_iff_count.mpr (fun a_ => by have e0_ := List.Perm.count_eq (hp2) a_; have e1_ := List.Perm.count_eq (h3) a_; simp only [List.flatten_cons, List.flatten_nil, jflat, List.cons_append, List.nil_append, List.count_append, List.count_cons, List.append_nil, List.count_nil, List.flatten_append, bkO, pgO, stO, eO, tkO, eA] at e0_ e1_ ⊢; omega))
    · by_cases hi : i = j
      · subst hi
        rw [List.getElem?_set_self (by omega)] at a3
        rw [hp1] at a1
        rw [hn1] at a2
        cases a1; cases a2; cases a3
        exact ⟨rl, wl2, rfl, hA2⟩
      · rw [List.getElem?_set_ne (fun e => hi e.symm)] at a3
        rw [hsame i (get_lt a2) hi]
        exact hP i p2 n2 wi a1 a2 a3
theorem isBkP_pop {g : jG} {cap qb ch fl n p : Nat} {ps es pages : List Nat} {w : va_W} (h : isBkP g cap qb ch (ps ++ [p]) es (pages ++ [n]) fl w) : ∃ wc wp R, w.Perm (jflat [[(qb, bkO ch fl)], wc, wp, R]) ∧ AL g ch (ps ++ [p]) wc ∧ isPg g p n (pgE cap es pages.length) wp ∧ ∀ wc2 w2, AL g ch ps wc2 → w2.Perm (jflat [[(qb, bkO ch fl)], wc2, R]) → isBk g cap qb es pages fl w2 := by
  obtain ⟨wc, wps, hp, hC, hl1, hl2, hP⟩ := h
  simp at hl1 hl2
  have e2 : ∃ w0 v, wps = w0 ++ [v] := ⟨wps.dropLast, wps.getLast (by intro e; rw [e] at hl2; simp at hl2), (List.dropLast_concat_getLast _).symm⟩
  obtain ⟨wps, wp, rfl⟩ := e2
  simp at hl1 hl2
  have hg : isPg g p n (pgE cap es pages.length) wp := hP pages.length p n wp (by rw [← hl1]; simp) (by simp) (by rw [← hl2]; simp)
  refine ⟨wc, wp, wps.flatten, (by letI : DecidableEq (Nat × va_E) := fun _ _ => Classical.propDecidable _; exact List.perm_iff_count.mpr (fun a_ => by have e0_ := List.Perm.count_eq (hp) a_; simp only [List.flatten_cons, List.flatten_nil, jflat, List.cons_append, List.nil_append, List.count_append, List.count_cons, List.append_nil, List.count_nil, List.flatten_append, bkO, pgO, stO, eO, tkO, eA] at e0_ ⊢; omega)), hC, hg, ?_⟩
  intro wc2 w2 hC2 hp2
  refine ⟨ch, wc2, ps, wps, hp2, hC2, hl1, hl2, fun i p2 n2 wi a1 a2 a3 => ?_⟩
  have := get_lt a1
  have := get_lt a2
  have := get_lt a3
  exact hP i p2 n2 wi (by rw [List.getElem?_append_left (by omega)]; exact a1) (by rw [List.getElem?_append_left (by omega)]; exact a2) (by rw [List.getElem?_append_left (by omega)]; exact a3)
theorem pgE_set {α : Type} {cap j k : Nat} {es : List α} {x : α} (hk : k < cap) : pgE cap (es.set (j * cap + k) x) j = (pgE cap es j).set k x := by
  apply List.ext_getElem?
  intro i
  rcases Nat.lt_or_ge i cap with hi | hi
  · rw [pgE_get hi]
    by_cases hik : i = k
    · subst hik
      rcases Nat.lt_or_ge (j * cap + i) es.length with h | h
      · rw [List.getElem?_set_self h, List.getElem?_set_self (by rw [pgE_len]; omega)]
      · rw [List.getElem?_eq_none (by simpa using h), List.getElem?_eq_none (by rw [List.length_set, pgE_len]; omega)]
    · rw [List.getElem?_set_ne (by omega), List.getElem?_set_ne (by omega), pgE_get hi]
  · rw [List.getElem?_eq_none (by rw [pgE_len]; omega), List.getElem?_eq_none (by rw [List.length_set, pgE_len]; omega)]
theorem pgE_set0 {α : Type} {cap j i k : Nat} {es : List α} {x : α} (hk : k < cap) (hi : i ≠ j) : pgE cap (es.set (j * cap + k) x) i = pgE cap es i := by
  apply List.ext_getElem?
  intro m
  rcases Nat.lt_or_ge m cap with hm | hm
  · rw [pgE_get hm, pgE_get hm, List.getElem?_set_ne]
    intro e
    have h1 : (j * cap + k) / cap = j := by rw [Nat.mul_comm, Nat.mul_add_div (by omega), Nat.div_eq_of_lt hk, Nat.add_zero]
    have h2 : (i * cap + m) / cap = i := by rw [Nat.mul_comm, Nat.mul_add_div (by omega), Nat.div_eq_of_lt hm, Nat.add_zero]
    rw [e, h2] at h1
    exact hi h1
  · rw [List.getElem?_eq_none (by rw [pgE_len]; omega), List.getElem?_eq_none (by rw [pgE_len]; omega)]
theorem pgE_dl {α : Type} {cap j : Nat} {es : List α} (h1 : j * cap < es.length) (h2 : es.length ≤ j * cap + cap) : pgE cap es.dropLast j = (pgE cap es j).dropLast := by
  have hc : cap ≠ 0 := by omega
  unfold pgE
  rw [List.dropLast_eq_take, List.drop_take, List.take_take, List.dropLast_eq_take, List.length_take, List.length_drop, List.take_take]
  congr 1
  omega
theorem pgE_dl0 {α : Type} {cap i : Nat} {es : List α} (h : (i + 1) * cap < es.length) : pgE cap es.dropLast i = pgE cap es i := by
  rw [Nat.succ_mul] at h
  unfold pgE
  rw [List.dropLast_eq_take, List.drop_take, List.take_take]
  congr 1
  omega
theorem usd_trm {B : List Bkt} {i n k : Nat} {b2 : Bkt} (h : ndB B) (hi : i < B.length) (hp : (bAt B i).2.1 = b2.2.1 ++ [n]) : k ∈ usd (B.set i b2) ↔ k ≠ n ∧ k ∈ usd B := by
  have hB := bAt_ex hi
  have h0 := h.1 _ (List.mem_of_getElem? hB)
  rw [hp, List.nodup_append] at h0
  rw [mem_usd_set hi, mem_usd]
  constructor
  · rintro (h1 | ⟨j, b, hj, h1, h2⟩)
    · exact ⟨fun e => h0.2.2 k h1 n (by simp) e, i, _, hB, by rw [hp]; simp [h1]⟩
    · exact ⟨fun e => hj (h.2 j i b _ k h1 hB h2 (by rw [hp, e]; simp)), j, b, h1, h2⟩
  · rintro ⟨h1, j, b, h2, h3⟩
    by_cases hj : j = i
    · subst hj
      rw [hB] at h2
      cases h2
      rw [hp] at h3
      rcases List.mem_append.mp h3 with h4 | h4
      · exact Or.inl h4
      · exact absurd (List.mem_singleton.mp h4) h1
    · exact Or.inr ⟨j, b, hj, h2, h3⟩
/-- dropping: a record's place taken by the last one -/
def drR {α : Type} (xs : List α) (i : Nat) (x : α) : List α := (xs.set i x).dropLast
theorem drR_mem {α : Type} {xs : List α} {i : Nat} {x y : α} (hx : xs[xs.length - 1]? = some x) (h : y ∈ drR xs i x) : y ∈ xs := by
  rcases List.mem_or_eq_of_mem_set ((List.dropLast_sublist _).subset h) with h1 | h1
  · exact h1
  · rw [h1]; exact List.mem_of_getElem? hx
theorem drR_get {α : Type} {xs : List α} {i k : Nat} {x y : α} (hx : xs[xs.length - 1]? = some x) (h : (drR xs i x)[k]? = some y) : ∃ k2, xs[k2]? = some y ∧ ((k = i ∧ k2 = xs.length - 1) ∨ (k ≠ i ∧ k2 = k)) ∧ k < xs.length - 1 := by
  have hl := get_lt h
  simp only [drR, List.length_dropLast, List.length_set] at hl
  unfold drR at h
  rw [List.dropLast_eq_take, List.getElem?_take, List.length_set, if_pos hl] at h
  by_cases hk : k = i
  · subst hk
    rw [List.getElem?_set_self (by omega)] at h
    cases h
    exact ⟨_, hx, Or.inl ⟨rfl, rfl⟩, hl⟩
  · rw [List.getElem?_set_ne (fun e => hk e.symm)] at h
    exact ⟨k, h, Or.inr ⟨hk, rfl⟩, hl⟩
theorem drR_nd {α : Type} {xs : List α} {i : Nat} {x : α} (hx : xs[xs.length - 1]? = some x) (h : xs.Nodup) : (drR xs i x).Nodup := by
  have hp := List.pairwise_iff_getElem.mp h
  refine List.pairwise_iff_getElem.mpr (fun a b ha hb hab e => ?_)
  obtain ⟨a2, h1, h2, h3⟩ := drR_get hx (List.getElem?_eq_getElem ha)
  obtain ⟨b2, h4, h5, h6⟩ := drR_get hx (List.getElem?_eq_getElem hb)
  have l1 := get_lt h1
  have l2 := get_lt h4
  rw [List.getElem?_eq_getElem l1] at h1
  rw [List.getElem?_eq_getElem l2] at h4
  have e2 : xs[a2] = xs[b2] := by rw [Option.some.inj h1, Option.some.inj h4, e]
  rcases Nat.lt_trichotomy a2 b2 with hl | hl | hl
  · exact hp a2 b2 l1 l2 hl e2
  · omega
  · exact hp b2 a2 l2 l1 hl e2.symm
theorem drR_map {α β : Type} {xs : List α} {i : Nat} {x : α} (f : α → β) : (drR xs i x).map f = drR (xs.map f) i (f x) := by
  simp [drR, List.map_dropLast, List.map_set]
theorem drB_eq {cap key i : Nat} {b : Bkt} {r x : Row} (hF : jFst (b.1.map (·.1)) key i) (hr : b.1[i]? = some r) (hx : b.1[b.1.length - 1]? = some x) : drB cap b key = (drR b.1 i x, trm cap (b.1.length - 1) b.2.1, b.2.2) := by
  have h1 := (jFst_find hF hr).2.1
  have h2 : b.1.getLastD (0, 0) = x := by
    rw [List.getLastD_eq_getLast?, List.getLast?_eq_getElem?, hx]
    rfl
  unfold drB drR
  rw [h1, h2]
  simp
