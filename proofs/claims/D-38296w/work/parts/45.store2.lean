/-! THE STORE, second: opening buckets and pages; append, emptied -/
set_option maxRecDepth 100000
section PM
variable {g : jG} {Y : jY} {wss : List va_W} {u pc : Nat} {L : List (Option Value)}
theorem j_spP {st : List Value} {w : va_W} (ws : List va_W) (h : w.Perm (jflat ws)) (k : J g Y (ws ++ wss) u pc L st) : J g Y (w :: wss) u pc L st :=
  j_pm (ws ++ wss) (by rw [jflat_eq] at h; rw [List.flatten_cons, List.flatten_append]; exact List.Perm.append_right _ h) k
/-- the first chunks as one, that gets a name -/
theorem j_mgN {st : List Value} (ws : List va_W) (k : ∀ w : va_W, w.Perm (jflat ws) → J g Y (w :: wss) u pc L st) : J g Y (ws ++ wss) u pc L st :=
  j_mg ws (jflat ws) rfl (k _ (List.Perm.refl _))
end PM
theorem tkO_congr {g : jG} {us us2 : List Nat} (h : ∀ k, k ∈ us ↔ k ∈ us2) : tkO g us = tkO g us2 := by
  show eA g 1 96 (fun k => nI (if k ∈ us then 1 else 0)) = eA g 1 96 (fun k => nI (if k ∈ us2 then 1 else 0))
  congr 1
  congr 1
  congr 1
  congr 1
  funext k
  by_cases hk : k ∈ us
  · rw [if_pos hk, if_pos ((h k).mp hk)]
  · rw [if_neg hk, if_neg (fun e => hk ((h k).mpr e))]
theorem get_ex {α : Type} {xs : List α} {i : Nat} (h : i < xs.length) : ∃ x, xs[i]? = some x := ⟨_, List.getElem?_eq_getElem h⟩
theorem get_lt {α : Type} {xs : List α} {i : Nat} {x : α} (h : xs[i]? = some x) : i < xs.length := (List.getElem?_eq_some_iff.mp h).1
theorem isBk_page {g : jG} {cap qb fl j : Nat} {es pages : List Nat} {w : va_W} (h : isBk g cap qb es pages fl w) (hj : j < pages.length) : ∃ ch wc ps p n rl wl R, w.Perm (jflat [[(qb, bkO ch fl)], wc, [(p, pgO n rl)], wl, R]) ∧ ps.length = pages.length ∧ ps[j]? = some p ∧ pages[j]? = some n ∧ AL g ch ps wc ∧ AL g rl (pgE cap es j) wl ∧ ∀ es2 fl2 wl2 w2, AL g rl (pgE cap es2 j) wl2 → (∀ i, i < pages.length → i ≠ j → pgE cap es2 i = pgE cap es i) → w2.Perm (jflat [[(qb, bkO ch fl2)], wc, [(p, pgO n rl)], wl2, R]) → isBk g cap qb es2 pages fl2 w2 := by
  obtain ⟨ch, wc, ps, wps, hp, hC, hl1, hl2, hP⟩ := h
  obtain ⟨p, hp1⟩ := get_ex (xs := ps) (i := j) (by omega)
  obtain ⟨n, hn1⟩ := get_ex hj
  obtain ⟨wp, hw1⟩ := get_ex (xs := wps) (i := j) (by omega)
  obtain ⟨rl, wl, rfl, hA⟩ := hP j p n wp hp1 hn1 hw1
  refine ⟨ch, wc, ps, p, n, rl, wl, (wps.eraseIdx j).flatten, ?_, hl1, hp1, hn1, hC, hA, ?_⟩
  · have h2 := fl_erase wps j _ hw1
    exact (by letI : DecidableEq (Nat × va_E) := fun _ _ => Classical.propDecidable _; exact List.perm_iff_count.mpr (fun a_ => by have e0_ := List.Perm.count_eq (hp) a_; have e1_ := List.Perm.count_eq (h2) a_; simp only [List.flatten_cons, List.flatten_nil, jflat, List.cons_append, List.nil_append, List.count_append, List.count_cons, List.append_nil, List.count_nil, List.flatten_append, bkO, pgO, stO, eO, tkO, eA] at e0_ e1_ ⊢; omega))
  · intro es2 fl2 wl2 w2 hA2 hsame hp2
    refine ⟨ch, wc, ps, wps.set j ((p, pgO n rl) :: wl2), ?_, hC, hl1, by simpa using hl2, fun i p2 n2 wi a1 a2 a3 => ?_⟩
    · have h3 := fl_set wps j ((p, pgO n rl) :: wl2) (by omega)
      exact (by letI : DecidableEq (Nat × va_E) := fun _ _ => Classical.propDecidable _; exact List.perm_iff_count.mpr (fun a_ => by have e0_ := List.Perm.count_eq (hp2) a_; have e1_ := List.Perm.count_eq (h3) a_; simp only [List.flatten_cons, List.flatten_nil, jflat, List.cons_append, List.nil_append, List.count_append, List.count_cons, List.append_nil, List.count_nil, List.flatten_append, bkO, pgO, stO, eO, tkO, eA] at e0_ e1_ ⊢; omega))
    · by_cases hi : i = j
      · subst hi
        rw [List.getElem?_set_self (by omega)] at a3
        rw [hp1] at a1
        rw [hn1] at a2
        cases a1; cases a2; cases a3
        exact ⟨rl, wl2, rfl, hA2⟩
      · rw [List.getElem?_set_ne (fun e => hi e.symm)] at a3
        rw [hsame i (get_lt a2) hi]
        exact hP i p2 n2 wi a1 a2 a3
theorem isBk_more {g : jG} {cap qb fl : Nat} {es pages : List Nat} {w : va_W} (h : isBk g cap qb es pages fl w) : ∃ ch wc ps R, w.Perm (jflat [[(qb, bkO ch fl)], wc, R]) ∧ ps.length = pages.length ∧ AL g ch ps wc ∧ (∀ p ∈ ps, ∃ n rl, (p, pgO n rl) ∈ R) ∧ ∀ p n wp wc2 w2, es.length ≤ pages.length * cap → AL g ch (ps ++ [p]) wc2 → isPg g p n [] wp → w2.Perm (jflat [wp, [(qb, bkO ch fl)], wc2, R]) → isBk g cap qb es (pages ++ [n]) fl w2 := by
  obtain ⟨ch, wc, ps, wps, hp, hC, hl1, hl2, hP⟩ := h
  refine ⟨ch, wc, ps, wps.flatten, hp, hl1, hC, fun p hpm => ?_, ?_⟩
  · obtain ⟨j, hj⟩ := List.getElem?_of_mem hpm
    have := get_lt hj
    obtain ⟨n, hn1⟩ := get_ex (xs := pages) (i := j) (by omega)
    obtain ⟨wp, hw1⟩ := get_ex (xs := wps) (i := j) (by omega)
    obtain ⟨rl, wl, rfl, hA⟩ := hP j p n wp hj hn1 hw1
    exact ⟨n, rl, List.mem_flatten.mpr ⟨_, List.mem_of_getElem? hw1, List.mem_cons_self⟩⟩
  · intro p n wp wc2 w2 hes hC2 hPg hp2
    refine ⟨ch, wc2, ps ++ [p], wps ++ [wp], ?_, hC2, by simp [hl1], by simp [hl2], fun i p2 n2 wi a1 a2 a3 => ?_⟩
    · exact (by letI : DecidableEq (Nat × va_E) := fun _ _ => Classical.propDecidable _; exact List.perm_iff_count.mpr (fun a_ => by have e0_ := List.Perm.count_eq (hp2) a_; simp only [List.flatten_cons, List.flatten_nil, jflat, List.cons_append, List.nil_append, List.count_append, List.count_cons, List.append_nil, List.count_nil, List.flatten_append, bkO, pgO, stO, eO, tkO, eA] at e0_ ⊢; omega))
    · rcases Nat.lt_or_ge i pages.length with hi | hi
      · rw [List.getElem?_append_left (by omega)] at a1 a2 a3
        exact hP i p2 n2 wi a1 a2 a3
      · have h9 := get_lt a2
        simp at h9
        have hi2 : i = pages.length := by omega
        subst hi2
        rw [List.getElem?_append_right (by omega), hl1, Nat.sub_self] at a1
        rw [List.getElem?_append_right (by omega), Nat.sub_self] at a2
        rw [List.getElem?_append_right (by omega), hl2, Nat.sub_self] at a3
        cases a1; cases a2; cases a3
        have : pgE cap es pages.length = [] := by
          apply List.eq_nil_of_length_eq_zero
          rw [pgE_len]
          omega
        rw [this]
        exact hPg
theorem isBk_pop {g : jG} {cap qb fl n : Nat} {es pages : List Nat} {w : va_W} (h : isBk g cap qb es (pages ++ [n]) fl w) : ∃ ch wc ps p wp R, w.Perm (jflat [[(qb, bkO ch fl)], wc, wp, R]) ∧ ps.length = pages.length ∧ AL g ch (ps ++ [p]) wc ∧ isPg g p n (pgE cap es pages.length) wp ∧ ∀ wc2 w2, AL g ch ps wc2 → w2.Perm (jflat [[(qb, bkO ch fl)], wc2, R]) → isBk g cap qb es pages fl w2 := by
  obtain ⟨ch, wc, ps, wps, hp, hC, hl1, hl2, hP⟩ := h
  simp at hl1 hl2
  have e1 : ∃ ps0 p, ps = ps0 ++ [p] := ⟨ps.dropLast, ps.getLast (by intro e; rw [e] at hl1; simp at hl1), (List.dropLast_concat_getLast _).symm⟩
  have e2 : ∃ w0 v, wps = w0 ++ [v] := ⟨wps.dropLast, wps.getLast (by intro e; rw [e] at hl2; simp at hl2), (List.dropLast_concat_getLast _).symm⟩
  obtain ⟨ps, p, rfl⟩ := e1
  obtain ⟨wps, wp, rfl⟩ := e2
  simp at hl1 hl2
  have hg : isPg g p n (pgE cap es pages.length) wp := hP pages.length p n wp (by rw [← hl1]; simp) (by simp) (by rw [← hl2]; simp)
  refine ⟨ch, wc, ps, p, wp, wps.flatten, (by letI : DecidableEq (Nat × va_E) := fun _ _ => Classical.propDecidable _; exact List.perm_iff_count.mpr (fun a_ => by have e0_ := List.Perm.count_eq (hp) a_; simp only [List.flatten_cons, List.flatten_nil, jflat, List.cons_append, List.nil_append, List.count_append, List.count_cons, List.append_nil, List.count_nil, List.flatten_append, bkO, pgO, stO, eO, tkO, eA] at e0_ ⊢; omega)), hl1, hC, hg, ?_⟩
  intro wc2 w2 hC2 hp2
  refine ⟨ch, wc2, ps, wps, hp2, hC2, hl1, hl2, fun i p2 n2 wi a1 a2 a3 => ?_⟩
  have := get_lt a1
  have := get_lt a2
  have := get_lt a3
  exact hP i p2 n2 wi (by rw [List.getElem?_append_left (by omega)]; exact a1) (by rw [List.getElem?_append_left (by omega)]; exact a2) (by rw [List.getElem?_append_left (by omega)]; exact a3)
theorem isBks_open {g : jG} {cap i qb : Nat} {qs : List Nat} {B : List Bkt} {ess : List (List Nat)} {wsb : List va_W} (h : isBks g cap qs B ess wsb) (hq : qs[i]? = some qb) : ∃ es wb R, ess[i]? = some es ∧ wsb.flatten.Perm (wb ++ R) ∧ isBk g cap qb es (bAt B i).2.1 (bAt B i).2.2 wb ∧ ∀ es2 (b2 : Bkt) wb2, isBk g cap qb es2 b2.2.1 b2.2.2 wb2 → ∃ wsb2, (wb2 ++ R).Perm wsb2.flatten ∧ isBks g cap qs (B.set i b2) (ess.set i es2) wsb2 := by
  obtain ⟨h1, h2, h3, h4⟩ := h
  have hl := get_lt hq
  obtain ⟨es, he⟩ := get_ex (xs := ess) (i := i) (by omega)
  obtain ⟨wb, hw⟩ := get_ex (xs := wsb) (i := i) (by omega)
  refine ⟨es, wb, (wsb.eraseIdx i).flatten, he, fl_erase wsb i wb hw, h4 i qb _ es wb hq (bAt_ex (by omega)) he hw, ?_⟩
  intro es2 b2 wb2 hb2
  refine ⟨wsb.set i wb2, fl_set wsb i wb2 (by omega), by simpa using h1, by simpa using h2, by simpa using h3, fun j qj b ej wj a1 a2 a3 a4 => ?_⟩
  by_cases hj : j = i
  · subst hj
    rw [List.getElem?_set_self (by omega)] at a2 a3 a4
    rw [hq] at a1
    cases a1; cases a2; cases a3; cases a4
    exact hb2
  · rw [List.getElem?_set_ne (fun e => hj e.symm)] at a2 a3 a4
    exact h4 j qj b ej wj a1 a2 a3 a4
