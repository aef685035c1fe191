/-! THE DESK, sixth: its whole state, how it lies in the heap -/
set_option maxRecDepth 100000
/-- numbers, file, kept file, log, images, marks -/
abbrev Dk : Type := N7 × Fl × Fl × List Act3 × (Nat → Nat) × (Nat → Option (Option Nat))
abbrev dN (D : Dk) : N7 := D.1
abbrev dF (D : Dk) : Fl := D.2.1
abbrev dK (D : Dk) : Fl := D.2.2.1
abbrev dA (D : Dk) : List Act3 := D.2.2.2.1
abbrev dI (D : Dk) : Nat → Nat := D.2.2.2.2.1
abbrev dM (D : Dk) : Nat → Option (Option Nat) := D.2.2.2.2.2
abbrev dGr (D : Dk) : Nat := D.1.1
abbrev dFl (D : Dk) : Nat := D.1.2.2.2.2.2.2
abbrev nFl (n : N7) (v : Nat) : N7 := (n.1, n.2.1, n.2.2.1, n.2.2.2.1, n.2.2.2.2.1, n.2.2.2.2.2.1, v)
abbrev fK5 (F : Fl) : K5 := (fC F, fLo F, fUp F, fSp F, fMg F)
def opnF (m : Nat → Option (Option Nat)) (i : Nat) : Int32 := nI (if (m i).isSome then 1 else 0)
def mkvF (m : Nat → Option (Option Nat)) (mv : Nat → Int32) : Prop := ∀ i a, i < 3 → m i = some a → mv i = mkV a
def actB (S : va_W) (xs : List Nat) (as : List Act3) : Prop := ∀ (i a : Nat) (b : Act3), xs[i]? = some a → as[i]? = some b → (a, acO b) ∈ S
theorem actB.mono {S S2 : va_W} {xs : List Nat} {as : List Act3} (h : actB S xs as) (hs : ∀ c ∈ S, c ∈ S2) : actB S2 xs as := fun i a b h1 h2 => hs _ (h i a b h1 h2)
theorem acO_ty {g : jG} {a : Nat} {b : Act3} : jTy g (a, acO b) := by
  unfold acO
  split
  · trivial
  · split
    · trivial
    · split <;> trivial
theorem actB.el {g : jG} {S : va_W} {xs : List Nat} {as : List Act3} (h : actB S xs as) (hl : xs.length = as.length) : ∀ y ∈ xs, jElB g S y := by
  intro y hy
  obtain ⟨i, hi⟩ := List.getElem?_of_mem hy
  have h1 := get_lt hi
  obtain ⟨b, hb⟩ := get_ex (xs := as) (i := i) (by omega)
  exact Or.inl ⟨_, h i y b hi hb, acO_ty⟩
theorem actB.add {S : va_W} {xs : List Nat} {as : List Act3} {a : Nat} {b : Act3} (h : actB S xs as) (hl : xs.length = as.length) (ha : (a, acO b) ∈ S) : actB S (xs ++ [a]) (as ++ [b]) := by
  intro i y c h1 h2
  rcases snoc_get h1 with ⟨h3, h4⟩ | ⟨h3, rfl⟩
  · rcases snoc_get h2 with ⟨-, h5⟩ | ⟨h5, -⟩
    · exact h i y c h4 h5
    · omega
  · rcases snoc_get h2 with ⟨h5, -⟩ | ⟨-, rfl⟩
    · omega
    · exact ha
/-- the desk at x, to be read -/
def rD (g : jG) (S : va_W) (x : Nat) (D : Dk) : Prop := ∃ (f k lg cl io mk hf hk : Nat) (ess essk : List (List Nat)) (xs : List Nat) (c0 c1 c2 : Nat) (mv : Nat → Int32),
  (x, dkO (dN D) f k lg cl io mk) ∈ S ∧ stR g S hf f (fK5 (dF D)) (lvl (fB (dF D)).length) (ptr (fB (dF D)).length) (rws (fB (dF D))) (fB (dF D)) ess ∧ entB S ess (fB (dF D)) ∧ (hf, hsO (fCh (dF D)) (fSd (dF D))) ∈ S ∧
  stR g S hk k (fK5 (dK D)) (lvl (fB (dK D)).length) (ptr (fB (dK D)).length) (rws (fB (dK D))) (fB (dK D)) essk ∧ entB S essk (fB (dK D)) ∧ (hk, hsO (fCh (dK D)) (fSd (dK D))) ∈ S ∧
  ALR g S lg xs ∧ xs.length = (dA D).length ∧ actB S xs (dA D) ∧ (cl, eQ g 4 3 (fun i => [c0, c1, c2][i]?)) ∈ S ∧ (∀ i c, i < 3 → [c0, c1, c2][i]? = some c → (c, clO (dI D i)) ∈ S) ∧
  (io, eA g 1 3 (opnF (dM D))) ∈ S ∧ (mk, eA g 0 3 mv) ∈ S ∧ mkvF (dM D) mv
/-- the desk at x, to be written: one chunk -/
def isD (g : jG) (x : Nat) (D : Dk) (w : va_W) : Prop := ∃ (f k lg cl io mk hf hk : Nat) (ess essk : List (List Nat)) (xs : List Nat) (c0 c1 c2 : Nat) (mv : Nat → Int32) (wl wa wf we wk wke wp : va_W),
  w.Perm (jflat [[(x, dkO (dN D) f k lg cl io mk)], wl, wa, [(cl, eQ g 4 3 (fun i => [c0, c1, c2][i]?))], [(c0, clO (dI D 0)), (c1, clO (dI D 1)), (c2, clO (dI D 2))], [(io, eA g 1 3 (opnF (dM D)))], [(mk, eA g 0 3 mv)], wf, we, wk, wke, wp]) ∧
  isF g hf f (dF D) ess wf ∧ entB we ess (fB (dF D)) ∧ (hf, hsO (fCh (dF D)) (fSd (dF D))) ∈ wp ∧ isF g hk k (dK D) essk wk ∧ entB wke essk (fB (dK D)) ∧ (hk, hsO (fCh (dK D)) (fSd (dK D))) ∈ wp ∧
  AL g lg xs wl ∧ xs.length = (dA D).length ∧ actB wa xs (dA D) ∧ mkvF (dM D) mv
theorem isD.r {g : jG} {x : Nat} {D : Dk} {w S : va_W} (h : isD g x D w) (hs : ∀ c ∈ w, c ∈ S) : rD g S x D := by
  obtain ⟨f, k, lg, cl, io, mk, hf, hk, ess, essk, xs, c0, c1, c2, mv, wl, wa, wf, we, wk, wke, wp, hp, hF, hE, h1, hK, hG, h2, hA, hl, ha, hm⟩ := h
  have hin : ∀ c, c ∈ jflat [[(x, dkO (dN D) f k lg cl io mk)], wl, wa, [(cl, eQ g 4 3 (fun i => [c0, c1, c2][i]?))], [(c0, clO (dI D 0)), (c1, clO (dI D 1)), (c2, clO (dI D 2))], [(io, eA g 1 3 (opnF (dM D)))], [(mk, eA g 0 3 mv)], wf, we, wk, wke, wp] → c ∈ S := fun c hc => hs c (hp.mem_iff.mpr hc)
  rw [jflat_eq] at hin
  have hch : ∀ (i : Nat) (u : va_W), ([[(x, dkO (dN D) f k lg cl io mk)], wl, wa, [(cl, eQ g 4 3 (fun i => [c0, c1, c2][i]?))], [(c0, clO (dI D 0)), (c1, clO (dI D 1)), (c2, clO (dI D 2))], [(io, eA g 1 3 (opnF (dM D)))], [(mk, eA g 0 3 mv)], wf, we, wk, wke, wp] : List va_W)[i]? = some u → ∀ c ∈ u, c ∈ S := fun i u hu c hc => hin c (List.mem_flatten.mpr ⟨u, List.mem_of_getElem? hu, hc⟩)
  refine ⟨f, k, lg, cl, io, mk, hf, hk, ess, essk, xs, c0, c1, c2, mv, hch 0 _ rfl _ (by simp), isSt.r hF (hch 7 _ rfl), hE.mono (hch 8 _ rfl), hch 11 _ rfl _ h1, isSt.r hK (hch 9 _ rfl), hG.mono (hch 10 _ rfl), hch 11 _ rfl _ h2, hA.r (hch 1 _ rfl), hl, ha.mono (hch 2 _ rfl), hch 3 _ rfl _ (by simp), ?_, hch 5 _ rfl _ (by simp), hch 6 _ rfl _ (by simp), hm⟩
  intro i c hi hc
  have hcell := hch 4 _ rfl
  match i, hi with
  | 0, _ => cases hc; exact hcell _ (by simp)
  | 1, _ => cases hc; exact hcell _ (by simp)
  | 2, _ => cases hc; exact hcell _ (by simp)
theorem rD.mono {g : jG} {x : Nat} {D : Dk} {S S2 : va_W} (h : rD g S x D) (hs : ∀ c ∈ S, c ∈ S2) : rD g S2 x D := by
  obtain ⟨f, k, lg, cl, io, mk, hf, hk, ess, essk, xs, c0, c1, c2, mv, a1, a2, a3, a4, a5, a6, a7, a8, a9, a10, a11, a12, a13, a14, a15⟩ := h
  exact ⟨f, k, lg, cl, io, mk, hf, hk, ess, essk, xs, c0, c1, c2, mv, hs _ a1, a2.mono hs, a3.mono hs, hs _ a4, a5.mono hs, a6.mono hs, hs _ a7, a8.mono hs, a9, a10.mono hs, hs _ a11, fun i c h1 h2 => hs _ (a12 i c h1 h2), hs _ a13, hs _ a14, a15⟩
/-- what holds of a desk -/
def InvD (D : Dk) : Prop := InvF (dF D) ∧ InvF (dK D) ∧ okAll (dK D) (dA D) ∧ doAll (dK D) (dA D) = dF D ∧ dFl D ≤ (dA D).length ∧ (dA D).length ≤ 60 ∧ 1 ≤ dGr D ∧ dGr D ≤ 8 ∧ (dA D).length - dFl D < dGr D ∧ (∀ i, 2 ≤ dI D i ∧ dI D i < 2 ^ 10) ∧ ∀ i k, dM D i = some (some k) → k < 10000
def dKeep (D : Dk) : Dk := (nFl (dN D) 0, dF D, dF D, [], dI D, dM D)
def dRoom (D : Dk) : Dk := if (dA D).length = 60 then dKeep D else D
def flN (D : Dk) : Nat := if dGr D ≤ (dA D).length + 1 - dFl D then (dA D).length + 1 else dFl D
def dLog (D : Dk) (a : Act3) : Dk := (nFl (dN D) (flN D), doA (dF D) a, dK D, dA D ++ [a], dI D, dM D)
def dAct (D : Dk) (a : Act3) : Dk := dLog (dRoom D) a
theorem okAll.snoc : ∀ {as : List Act3} {F : Fl} {a : Act3}, okAll F as → okA (doAll F as) a → okAll F (as ++ [a]) := by
  intro as
  induction as with
  | nil => intro F a _ h; exact ⟨h, trivial⟩
  | cons b as ih => intro F a h h2; exact ⟨h.1, ih h.2 h2⟩
theorem doAll_snoc {as : List Act3} {F : Fl} {a : Act3} : doAll F (as ++ [a]) = doA (doAll F as) a := by simp [doAll, List.foldl_append]
theorem InvD.keep {D : Dk} (h : InvD D) : InvD (dKeep D) := by
  obtain ⟨h1, h2, h3, h4, h5, h6, h7, h8, h9, h10, h11⟩ := h
  exact ⟨h1, h1, trivial, rfl, Nat.le_refl _, Nat.zero_le _, h7, h8, h7, h10, h11⟩
theorem InvD.room {D : Dk} (h : InvD D) : InvD (dRoom D) ∧ (dA (dRoom D)).length < 60 ∧ dF (dRoom D) = dF D := by
  unfold dRoom
  split
  · exact ⟨h.keep, by show 0 < 60; omega, rfl⟩
  · exact ⟨h, by have := h.2.2.2.2.2.1; omega, rfl⟩
theorem InvD.log {D : Dk} {a : Act3} (h : InvD D) (hl : (dA D).length < 60) (ha : okA (dF D) a) : InvD (dLog D a) := by
  obtain ⟨h1, h2, h3, h4, h5, h6, h7, h8, h9, h10, h11⟩ := h
  have e1 : (dA D ++ [a]).length = (dA D).length + 1 := by simp
  refine ⟨(ha.inv h1).1, h2, h3.snoc (by rw [h4]; exact ha), by show doAll (dK D) (dA D ++ [a]) = doA (dF D) a; rw [doAll_snoc, h4], ?_, ?_, h7, h8, ?_, h10, h11⟩
  · show flN D ≤ (dA D ++ [a]).length
    rw [e1]
    unfold flN
    split <;> omega
  · show (dA D ++ [a]).length ≤ 60
    omega
  · show (dA D ++ [a]).length - flN D < dGr D
    rw [e1]
    unfold flN
    split <;> omega
theorem InvD.act {D : Dk} {a : Act3} (h : InvD D) (ha : okA (dF D) a) : InvD (dAct D a) := by
  obtain ⟨h1, h2, h3⟩ := h.room
  exact h1.log h2 (by rw [h3]; exact ha)
