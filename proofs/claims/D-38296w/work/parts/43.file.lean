/-! PURE: the file's acts on lists; then HOW IT LIES IN THE HEAP, for writing -/
set_option maxRecDepth 100000
def bAt (B : List Bkt) (i : Nat) : Bkt := B[i]?.getD ([], [], 0)
def usd (B : List Bkt) : List Nat := B.flatMap (fun b => b.2.1)
def lowG (us : List Nat) : Nat → Nat → Nat
  | 0, k => k
  | d + 1, k => if k ∈ us then lowG us d (k + 1) else k
/-- the lowest page that is free -/
def lowF (us : List Nat) : Nat := lowG us 96 0
theorem lowG_eq {us : List Nat} {k : Nat} (h : ∀ j, j < k → j ∈ us) (hk : k ∉ us) : ∀ d j, j ≤ k → k < j + d → lowG us d j = k := by
  intro d
  induction d with
  | zero => intro j h1 h2; omega
  | succ d ih =>
    intro j h1 h2
    unfold lowG
    by_cases hj : j = k
    · rw [if_neg (by rw [hj]; exact hk), hj]
    · rw [if_pos (h j (by omega))]
      exact ih (j + 1) (by omega) (by omega)
theorem lowF_eq {us : List Nat} {k : Nat} (h : ∀ j, j < k → j ∈ us) (hk : k ∉ us) (h9 : k < 96) : lowF us = k := lowG_eq h hk 96 0 (by omega) (by omega)
theorem nd_le : ∀ (l us : List Nat), l.Nodup → l ⊆ us → l.length ≤ us.length
  | [], us, _, _ => by simp
  | a :: l, us, h, hs => by
    have ha : a ∈ us := hs (by simp)
    have h1 := nd_le l (us.erase a) (List.nodup_cons.mp h).2 (fun x hx => by
      have : x ≠ a := fun e => (List.nodup_cons.mp h).1 (e ▸ hx)
      exact (List.mem_erase_of_ne this).mpr (hs (by simp [hx])))
    have h2 := List.length_erase_of_mem ha
    have h3 := List.length_pos_of_mem ha
    simp only [List.length_cons]
    omega
theorem low_ex {us : List Nat} : us.length < 96 → ∃ k, k < 96 ∧ k ∉ us ∧ ∀ j, j < k → j ∈ us := by
  intro hl
  have h0 : ∃ k, k < 96 ∧ k ∉ us := by
    apply Classical.byContradiction
    intro h
    have hs : (List.range 96) ⊆ us := by
      intro k hk
      apply Classical.byContradiction
      intro h2
      exact h ⟨k, List.mem_range.mp hk, h2⟩
    have := nd_le _ _ List.nodup_range hs
    simp at this
    omega
  obtain ⟨k, h1, h2⟩ := h0
  have : ∀ n k, k ≤ n → k < 96 → k ∉ us → ∃ k, k < 96 ∧ k ∉ us ∧ ∀ j, j < k → j ∈ us := by
    intro n
    induction n with
    | zero => intro k hk h1 h2; exact ⟨k, h1, h2, fun j hj => by omega⟩
    | succ n ih =>
      intro k hk h1 h2
      by_cases h3 : ∀ j, j < k → j ∈ us
      · exact ⟨k, h1, h2, h3⟩
      · have ⟨j, hj⟩ := Classical.not_forall.mp h3
        have ⟨hj1, hj2⟩ := Classical.not_imp.mp hj
        exact ih j (by omega) (by omega) hj2
  exact this k k (Nat.le_refl _) h1 h2
theorem lowF_spec {us : List Nat} (hl : us.length < 96) : lowF us < 96 ∧ lowF us ∉ us ∧ ∀ j, j < lowF us → j ∈ us := by
  obtain ⟨k, h1, h2, h3⟩ := low_ex hl
  rw [lowF_eq h3 h2 h1]
  exact ⟨h1, h2, h3⟩
def orf (ch sd : Nat) (rs : List Row) : Nat := rs.foldl (fun a r => a ||| mrk (hsh ch sd r.1)) 0
/-- a record behind the last one of its bucket -/
def apB (cap ch sd : Nat) (us : List Nat) (b : Bkt) (r : Row) : Bkt := (b.1 ++ [r], if b.1.length = cap * b.2.1.length then b.2.1 ++ [lowF us] else b.2.1, b.2.2 ||| mrk (hsh ch sd r.1))
def fApp (cap ch sd : Nat) (B : List Bkt) (r : Row) : List Bkt := B.set (adr B.length (hsh ch sd r.1)) (apB cap ch sd (usd B) (bAt B (adr B.length (hsh ch sd r.1))) r)
def apAll (cap ch sd : Nat) (B : List Bkt) (rs : List Row) : List Bkt := rs.foldl (fApp cap ch sd) B
/-- a bucket more -/
def grw (B : List Bkt) : List Bkt := B ++ [([], [lowF (usd B)], 0)]
def emB (b : Bkt) : Bkt := ([], b.2.1.take 1, 0)
def splB (cap ch sd : Nat) (B : List Bkt) : List Bkt := apAll cap ch sd (grw (B.set (ptr B.length) (emB (bAt B (ptr B.length))))) (bAt B (ptr B.length)).1
def mrgB (cap ch sd : Nat) (B : List Bkt) : List Bkt :=
  let B1 := B.dropLast
  let b := bAt B1 (ptr B1.length)
  apAll cap ch sd (B1.set (ptr B1.length) (b.1, b.2.1, orf ch sd b.1)) (bAt B (B.length - 1)).1
def rws (B : List Bkt) : Nat := (B.map (fun b => b.1.length)).sum
def lod (cap : Nat) (B : List Bkt) : Nat := 100 * rws B / (B.length * cap)
def splN (cap ch sd up : Nat) : Nat → List Bkt × Nat → List Bkt × Nat
  | 0, x => x
  | d + 1, x => if up < lod cap x.1 then splN cap ch sd up d (splB cap ch sd x.1, x.2 + 1) else x
def mrgN (cap ch sd lo : Nat) : Nat → List Bkt × Nat → List Bkt × Nat
  | 0, x => x
  | d + 1, x => if lod cap x.1 < lo ∧ 2 < x.1.length then mrgN cap ch sd lo d (mrgB cap ch sd x.1, x.2 + 1) else x
/-- the place of a key in a bucket's records -/
def plc (rs : List Row) (key : Nat) : Nat := rs.findIdx (fun r => decide (r.1 = key))
def bOf (ch sd : Nat) (B : List Bkt) (key : Nat) : Nat := adr B.length (hsh ch sd key)
def fGet (ch sd : Nat) (B : List Bkt) (key : Nat) : Option Nat := ((bAt B (bOf ch sd B key)).1.find? (fun r => decide (r.1 = key))).map (·.2)
/-- a chain's pages for so many records: the last one goes when it is empty -/
def trm (cap k : Nat) (ps : List Nat) : List Nat := if 1 < ps.length ∧ k ≤ (ps.length - 1) * cap then ps.dropLast else ps
def drB (cap : Nat) (b : Bkt) (key : Nat) : Bkt :=
  let rs := (b.1.set (plc b.1 key) (b.1.getLastD (0, 0))).dropLast
  (rs, trm cap rs.length b.2.1, b.2.2)
def ovB (b : Bkt) (key v : Nat) : Bkt := (b.1.set (plc b.1 key) (key, v), b.2.1, b.2.2)
def bgn : List Bkt := [([], [0], 0), ([], [1], 0)]
/-- PUT, DROP, REHASH -/
def fPut (F : Fl) (k v : Nat) : Fl :=
  let B := fB F
  match fGet (fCh F) (fSd F) B k with
  | some _ => (F.1, F.2.1, F.2.2.1, B.set (bOf (fCh F) (fSd F) B k) (ovB (bAt B (bOf (fCh F) (fSd F) B k)) k v))
  | none =>
    let x := splN (fC F) (fCh F) (fSd F) (fUp F) 64 (fApp (fC F) (fCh F) (fSd F) B (k, v), fSp F)
    (F.1, F.2.1, (x.2, fMg F), x.1)
def fDrop (F : Fl) (k : Nat) : Fl :=
  let B := fB F
  let i := bOf (fCh F) (fSd F) B k
  let x := mrgN (fC F) (fCh F) (fSd F) (fLo F) 64 (B.set i (drB (fC F) (bAt B i) k), fMg F)
  (F.1, F.2.1, (fSp F, x.2), x.1)
def alR (B : List Bkt) : List Row := B.flatMap (fun b => b.1)
def fRe (F : Fl) (ch sd : Nat) : Fl := (alR (fB F)).foldl (fun F r => fPut F r.1 r.2) (F.1, (ch, sd), F.2.2.1, bgn)
theorem bAt_get {B : List Bkt} {i : Nat} {b : Bkt} (h : B[i]? = some b) : bAt B i = b := by unfold bAt; rw [h]; rfl
theorem bAt_ex {B : List Bkt} {i : Nat} (h : i < B.length) : B[i]? = some (bAt B i) := by
  unfold bAt
  rw [List.getElem?_eq_getElem h]
  rfl
/-! the heap -/
def isPg (g : jG) (p n : Nat) (es : List Nat) (w : va_W) : Prop := ∃ rl wl, w = (p, pgO n rl) :: wl ∧ AL g rl es wl
def isPgs (g : jG) (cap : Nat) (ps pages es : List Nat) (wps : List va_W) : Prop := ps.length = pages.length ∧ wps.length = pages.length ∧ ∀ j p n w, ps[j]? = some p → pages[j]? = some n → wps[j]? = some w → isPg g p n (pgE cap es j) w
def isBk (g : jG) (cap qb : Nat) (es pages : List Nat) (fl : Nat) (w : va_W) : Prop := ∃ ch wc ps wps, w.Perm ((qb, bkO ch fl) :: (wc ++ wps.flatten)) ∧ AL g ch ps wc ∧ isPgs g cap ps pages es wps
abbrev tkO (g : jG) (us : List Nat) : va_E := eA g 1 96 (fun k => nI (if k ∈ us then 1 else 0))
/-- cap, lower, upper, splits, merges -/
abbrev K5 : Type := Nat × Nat × Nat × Nat × Nat
abbrev stO (F : K5) (lv pt sz hs bl tk : Nat) : va_E := eO 2 [.int (nI F.1), .int (nI F.2.1), .int (nI F.2.2.1), .int (nI lv), .int (nI pt), .int (nI sz), .int (nI F.2.2.2.1), .int (nI F.2.2.2.2), .ref hs, .ref bl, .ref tk]
def isBks (g : jG) (cap : Nat) (qs : List Nat) (B : List Bkt) (ess : List (List Nat)) (wsb : List va_W) : Prop := qs.length = B.length ∧ ess.length = B.length ∧ wsb.length = B.length ∧ ∀ (i qb : Nat) (b : Bkt) (es : List Nat) (w : va_W), qs[i]? = some qb → B[i]? = some b → ess[i]? = some es → wsb[i]? = some w → isBk g cap qb es b.2.1 b.2.2 w
def isSt (g : jG) (hs q : Nat) (F : K5) (lv pt sz : Nat) (B : List Bkt) (ess : List (List Nat)) (w : va_W) : Prop := ∃ bl tk qs wbl wsb, w.Perm ([(q, stO F lv pt sz hs bl tk)] ++ ([(tk, tkO g (usd B))] ++ (wbl ++ wsb.flatten))) ∧ AL g bl qs wbl ∧ isBks g F.1 qs B ess wsb
theorem fl_erase {α : Type} : ∀ (ws : List (List α)) (j : Nat) (w : List α), ws[j]? = some w → ws.flatten.Perm (w ++ (ws.eraseIdx j).flatten)
  | [], j, w, h => by simp at h
  | v :: ws, 0, w, h => by
    have : v = w := by simpa using h
    subst this
    simp
  | v :: ws, j + 1, w, h => by
    have ih := fl_erase ws j w (by simpa using h)
    simp only [List.flatten_cons, List.eraseIdx_cons_succ]
    refine (List.Perm.append_left v ih).trans ?_
    rw [← List.append_assoc, ← List.append_assoc]
    exact List.Perm.append_right _ List.perm_append_comm
theorem fl_set {α : Type} (ws : List (List α)) (j : Nat) (w : List α) (h : j < ws.length) : (w ++ (ws.eraseIdx j).flatten).Perm (ws.set j w).flatten := by
  have h1 := fl_erase (ws.set j w) j w (by rw [List.getElem?_set_self h])
  rw [List.eraseIdx_set_eq] at h1
  exact h1.symm
theorem isPg.r {g : jG} {p n : Nat} {es : List Nat} {w S : va_W} (h : isPg g p n es w) (hs : ∀ c ∈ w, c ∈ S) : ∃ rl, (p, pgO n rl) ∈ S ∧ ALR g S rl es := by
  obtain ⟨rl, wl, rfl, hA⟩ := h
  exact ⟨rl, hs _ (by simp), hA.r (fun c hc => hs c (by simp [hc]))⟩
theorem isPgs.r {g : jG} {cap : Nat} {ps pages es : List Nat} {wps : List va_W} {S : va_W} (h : isPgs g cap ps pages es wps) (hs : ∀ c ∈ wps.flatten, c ∈ S) : pgsR g S cap ps pages es := by
  obtain ⟨h1, h2, h3⟩ := h
  refine ⟨h1, fun j p hp => ?_⟩
  have hl := (List.getElem?_eq_some_iff.mp hp).1
  have hw : wps[j]? = some wps[j] := List.getElem?_eq_getElem (by omega)
  have hn : pages[j]? = some pages[j] := List.getElem?_eq_getElem (by omega)
  obtain ⟨rl, h4, h5⟩ := (h3 j p _ _ hp hn hw).r (S := S) (fun c hc => hs c (List.mem_flatten.mpr ⟨_, List.mem_of_getElem? hw, hc⟩))
  exact ⟨_, rl, hn, h4, h5⟩
theorem isBk.r {g : jG} {cap qb fl : Nat} {es pages : List Nat} {w S : va_W} (h : isBk g cap qb es pages fl w) (hs : ∀ c ∈ w, c ∈ S) : bkR g S cap qb es pages fl := by
  obtain ⟨ch, wc, ps, wps, hp, hA, hP⟩ := h
  exact ⟨ch, ps, hs _ (hp.mem_iff.mpr (by simp)), hA.r (fun c hc => hs c (hp.mem_iff.mpr (by simp [hc]))), hP.r (fun c hc => hs c (hp.mem_iff.mpr (List.mem_cons_of_mem _ (List.mem_append_right _ hc))))⟩
/-- a store for reading -/
def stR (g : jG) (S : va_W) (hs q : Nat) (F : K5) (lv pt sz : Nat) (B : List Bkt) (ess : List (List Nat)) : Prop := ∃ bl tk qs, (q, stO F lv pt sz hs bl tk) ∈ S ∧ (tk, tkO g (usd B)) ∈ S ∧ ALR g S bl qs ∧ qs.length = B.length ∧ ess.length = B.length ∧ ∀ (i qb : Nat) (b : Bkt) (es : List Nat), qs[i]? = some qb → B[i]? = some b → ess[i]? = some es → bkR g S F.1 qb es b.2.1 b.2.2
theorem stR.mono {g : jG} {S S2 : va_W} {hs q : Nat} {F : K5} {lv pt sz : Nat} {B : List Bkt} {ess : List (List Nat)} (h : stR g S hs q F lv pt sz B ess) (hs2 : ∀ c ∈ S, c ∈ S2) : stR g S2 hs q F lv pt sz B ess := by
  obtain ⟨bl, tk, qs, h1, h2, h3, h4, h5, h6⟩ := h
  exact ⟨bl, tk, qs, hs2 _ h1, hs2 _ h2, h3.mono hs2, h4, h5, fun i qb b es a1 a2 a3 => (h6 i qb b es a1 a2 a3).mono hs2⟩
theorem isBks.r {g : jG} {cap : Nat} {qs : List Nat} {B : List Bkt} {ess : List (List Nat)} {wsb : List va_W} {S : va_W} (h : isBks g cap qs B ess wsb) (hs : ∀ c ∈ wsb.flatten, c ∈ S) : ∀ (i qb : Nat) (b : Bkt) (es : List Nat), qs[i]? = some qb → B[i]? = some b → ess[i]? = some es → bkR g S cap qb es b.2.1 b.2.2 := by
  obtain ⟨h1, h2, h3, h4⟩ := h
  intro i qb b es a1 a2 a3
  have hl := (List.getElem?_eq_some_iff.mp a1).1
  have hw : wsb[i]? = some wsb[i] := List.getElem?_eq_getElem (by omega)
  exact (h4 i qb b es _ a1 a2 a3 hw).r (fun c hc => hs c (List.mem_flatten.mpr ⟨_, List.mem_of_getElem? hw, hc⟩))
theorem isSt.r {g : jG} {hs q : Nat} {F : K5} {lv pt sz : Nat} {B : List Bkt} {ess : List (List Nat)} {w S : va_W} (h : isSt g hs q F lv pt sz B ess w) (hs2 : ∀ c ∈ w, c ∈ S) : stR g S hs q F lv pt sz B ess := by
  obtain ⟨bl, tk, qs, wbl, wsb, hp, hA, hB⟩ := h
  have hq : ∀ c, c ∈ [(q, stO F lv pt sz hs bl tk)] ++ ([(tk, tkO g (usd B))] ++ (wbl ++ wsb.flatten)) → c ∈ S := fun c hc => hs2 c (hp.mem_iff.mpr hc)
  exact ⟨bl, tk, qs, hq _ (by simp), hq _ (by simp), hA.r (fun c hc => hq c (by simp [hc])), hB.1, hB.2.1, hB.r (fun c hc => hq c (List.mem_append_right _ (List.mem_append_right _ (List.mem_append_right _ hc))))⟩
/-- the records of all buckets -/
def entB (S : va_W) (ess : List (List Nat)) (B : List Bkt) : Prop := ess.length = B.length ∧ ∀ (i : Nat) (es : List Nat) (b : Bkt), ess[i]? = some es → B[i]? = some b → entR S es b.1
theorem entB.mono {S S2 : va_W} {ess : List (List Nat)} {B : List Bkt} (h : entB S ess B) (hs : ∀ c ∈ S, c ∈ S2) : entB S2 ess B := ⟨h.1, fun i es b h1 h2 => (h.2 i es b h1 h2).mono hs⟩
