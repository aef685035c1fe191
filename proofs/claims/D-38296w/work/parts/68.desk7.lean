/-! THE DESK, seventh: the frame rule for contracts; keep, room, log, closing over the whole desk -/
set_option maxRecDepth 100000
theorem Ctr.frame {l : Launch} {g : jG} {y : MethodName} {cc : ByteArray} {maxL : Nat} {ret : Option FieldType} {lev U : Nat} {av : List Value} {bg : va_W} {wc wr wc2 : List va_W} {post post2 : Option Value → List va_W → Prop} (h : Ctr l g y cc maxL ret lev U av (wr.flatten ++ bg) wc post) (hp : wc2.flatten.Perm (wc ++ wr).flatten) (hq : ∀ v wd, post v wd → ∃ (wd2 : List va_W) (rest : va_W), (wd2.flatten ++ rest).Perm (wd ++ wr).flatten ∧ post2 v wd2) : Ctr l g y cc maxL ret lev U av bg wc2 post2 := by
  intro sz
  refine MetFree.mono (h sz) ?_ (fun _ _ _ _ _ h => h) ?_
  · rintro a s ⟨ha, hsz, hW, hP, hD, hbg, hbe, hb⟩
    have hP' := va_P_perm hP hp
    have hD' := va_D_perm hD hp
    rw [List.flatten_append] at hP' hD'
    have hD2 := va_D_iff.mp hD'
    have hn := hD2.1
    rw [List.map_append] at hn
    have hn2 := List.nodup_append.mp hn
    refine ⟨ha, hsz, hW, va_P_mem.mpr fun c hc => va_P_mem.mp hP' c (List.mem_append_left _ hc), va_D_iff.mpr ⟨hn2.1, fun c hc => hD2.2 c (List.mem_append_left _ hc)⟩, ?_, hbe, hb⟩
    intro c hc
    rcases List.mem_append.mp hc with h1 | h1
    · exact ⟨va_P_mem.mp hP' c (List.mem_append_right _ h1), fun d hd e => hn2.2.2 d.1 (List.mem_map.mpr ⟨d, hd, rfl⟩) c.1 (List.mem_map.mpr ⟨c, h1, rfl⟩) e⟩
    · obtain ⟨h2, h3⟩ := hbg c h1
      exact ⟨h2, fun d hd => h3 d (hp.mem_iff.mpr (by rw [List.flatten_append]; exact List.mem_append_left _ hd))⟩
  · rintro a s o t ⟨ha, hsz, hW, hP, hD, hbg, hbe, hb⟩ ⟨⟨⟨v, wd, ho, hpost, hP1, hD1⟩, hF⟩, Ls, hend, hfree⟩
    obtain ⟨wd2, rest, hp2, hpost2⟩ := hq v wd hpost
    have hP' := va_P_perm hP hp
    have hD' := va_D_perm hD hp
    rw [List.flatten_append] at hP' hD' hp2
    have hD2 := va_D_iff.mp hD'
    have hn := hD2.1
    rw [List.map_append] at hn
    have hn2 := List.nodup_append.mp hn
    have hA : ∀ q, va_A wc.flatten sz q → va_A wc2.flatten sz q := by
      rintro q (⟨i, e, h⟩ | h)
      · obtain ⟨j, hj⟩ := List.getElem?_of_mem (hp.mem_iff.mpr (show (q, e) ∈ (wc ++ wr).flatten by rw [List.flatten_append]; exact List.mem_append_left _ (List.mem_of_getElem? h)))
        exact Or.inl ⟨j, e, hj⟩
      · exact Or.inr h
    have hB : ∀ c ∈ wr.flatten, c.1 < sz ∧ ¬ va_A wc.flatten sz c.1 := by
      intro c hc
      have hl := (va_P_mem.mp hP' c (List.mem_append_right _ hc)).lt
      rw [hsz] at hl
      refine ⟨hl, ?_⟩
      rintro (⟨i, e, h⟩ | h)
      · exact hn2.2.2 c.1 (List.mem_map.mpr ⟨(c.1, e), List.mem_of_getElem? h, rfl⟩) c.1 (List.mem_map.mpr ⟨c, hc, rfl⟩) rfl
      · omega
    have hP2 : va_P g.1 CL (wd.flatten ++ wr.flatten) t.heap := va_P_mem.mpr fun c hc => by
      rcases List.mem_append.mp hc with h1 | h1
      · exact va_P_mem.mp hP1 c h1
      · obtain ⟨g1, g2⟩ := hB c h1
        exact (va_P_mem.mp hP' c (List.mem_append_right _ h1)).kept (hF.2 c.1 (by rw [hsz]; exact g1) g2)
    have hD3 := va_D_iff.mp hD1
    have hD4 : va_D (va_A wc2.flatten sz) (wd.flatten ++ wr.flatten) := va_D_iff.mpr ⟨by
      rw [List.map_append]
      refine List.nodup_append.mpr ⟨hD3.1, hn2.2.1, fun x hx y hy e => ?_⟩
      obtain ⟨c, hc, rfl⟩ := List.mem_map.mp hx
      obtain ⟨d, hd, rfl⟩ := List.mem_map.mp hy
      exact (hB d hd).2 (by rw [← e]; exact hD3.2 c hc), fun c hc => by
      rcases List.mem_append.mp hc with h1 | h1
      · exact hA _ (hD3.2 c h1)
      · obtain ⟨j, hj⟩ := List.getElem?_of_mem (hp.mem_iff.mpr (show c ∈ (wc ++ wr).flatten by rw [List.flatten_append]; exact List.mem_append_right _ h1))
        exact Or.inl ⟨j, c.2, hj⟩⟩
    have hP3 := va_P_perm hP2 hp2.symm
    have hD5 := va_D_iff.mp (va_D_perm hD4 hp2.symm)
    have hn5 := hD5.1
    rw [List.map_append] at hn5
    exact ⟨⟨⟨v, wd2, ho, hpost2, va_P_mem.mpr fun c hc => va_P_mem.mp hP3 c (List.mem_append_left _ hc), va_D_iff.mpr ⟨(List.nodup_append.mp hn5).1, fun c hc => hD5.2 c (List.mem_append_left _ hc)⟩⟩, hF.1, fun q h1 h2 => hF.2 q h1 (fun h3 => h2 (hA q h3))⟩, Ls, hend, fun q h => hA _ (hfree q h)⟩
def uRoom (D : Dk) : Nat := if (dA D).length = 60 then uCopy (fB (dF D)) else 0
theorem ctD_keep {l : Launch} {g : jG} (hG : GS l g) (bg : va_W) {x : Nat} {D : Dk} {w : va_W} (hD : isD g x D w) (hI : InvF (dF D)) : KX1_keep l g 12 (uCopy (fB (dF D))) [.ref x] bg [w] (fun v wd => v = none ∧ ∃ w2, wd = [w2] ∧ isD g x (dKeep D) w2) := by
  obtain ⟨f, k, lg, cl, io, mk, hf, hk, ess, essk, xs, c0, c1, c2, mv, wl, wa, wf, we, wk, wke, wp, hp, hF, hE, h1, hK, hG2, h2, hA, hl, ha, hm⟩ := hD
  refine Ctr.frame (wr := [wa, [(cl, eQ g 4 3 (fun i => [c0, c1, c2][i]?))], [(c0, clO (dI D 0)), (c1, clO (dI D 1)), (c2, clO (dI D 2))], [(io, eA g 1 3 (opnF (dM D)))], [(mk, eA g 0 3 mv)], wf, we, wk, wke, wp]) (ctX1_keep hG _ (F := dF D) (isSt.r hF (fun _ h => jwl 5 rfl h)) (hE.mono (fun _ h => jwl 6 rfl h)) (jwl 9 rfl h1) hI hA) (by letI : DecidableEq (Nat × va_E) := fun _ _ => Classical.propDecidable _; exact List.perm_iff_count.mpr (fun a_ => by have e0_ := List.Perm.count_eq (hp) a_; simp only [List.flatten_cons, List.flatten_nil, jflat, List.cons_append, List.nil_append, List.count_append, List.count_cons, List.append_nil, List.count_nil, List.flatten_append, bkO, pgO, stO, eO, tkO, eA, nFl] at e0_ ⊢; omega)) ?_
  rintro v wd ⟨rfl, k2, ess2, w2, we2, wl2, rfl, hA2, hF2, hE2⟩
  refine ⟨[jflat [[(x, dkO (nFl (dN D) 0) f k2 lg cl io mk)], wl2, wa, [(cl, eQ g 4 3 (fun i => [c0, c1, c2][i]?))], [(c0, clO (dI D 0)), (c1, clO (dI D 1)), (c2, clO (dI D 2))], [(io, eA g 1 3 (opnF (dM D)))], [(mk, eA g 0 3 mv)], wf, we, w2, we2, wp]], wk ++ wke, (by letI : DecidableEq (Nat × va_E) := fun _ _ => Classical.propDecidable _; exact List.perm_iff_count.mpr (fun a_ => by simp only [List.flatten_cons, List.flatten_nil, jflat, List.cons_append, List.nil_append, List.count_append, List.count_cons, List.append_nil, List.count_nil, List.flatten_append, bkO, pgO, stO, eO, tkO, eA, nFl]; omega)), rfl, _, rfl, f, k2, lg, cl, io, mk, hf, hf, ess, ess2, [], c0, c1, c2, mv, wl2, wa, wf, we, w2, we2, wp, List.Perm.refl _, hF, hE, h1, hF2, hE2, h1, hA2, rfl, fun i a b h => by simp at h, hm⟩
theorem ctD_makeRoom {l : Launch} {g : jG} (hG : GS l g) (bg : va_W) {x : Nat} {D : Dk} {w : va_W} (hD : isD g x D w) (hI : InvD D) : KX1_makeRoom l g 13 (uRoom D) [.ref x] bg [w] (fun v wd => v = none ∧ ∃ w2, wd = [w2] ∧ isD g x (dRoom D) w2) := by
  obtain ⟨f, k, lg, cl, io, mk, hf, hk, ess, essk, xs, c0, c1, c2, mv, wl, wa, wf, we, wk, wke, wp, hp, hF, hE, h1, hK, hG2, h2, hA, hl, ha, hm⟩ := id hD
  have h60 := hI.2.2.2.2.2.1
  have hu : uRoom D = if xs.length = 60 then uCopy (fB (dF D)) else 0 := by rw [hl]; rfl
  rw [hu]
  refine Ctr.frame (wr := [wa, [(cl, eQ g 4 3 (fun i => [c0, c1, c2][i]?))], [(c0, clO (dI D 0)), (c1, clO (dI D 1)), (c2, clO (dI D 2))], [(io, eA g 1 3 (opnF (dM D)))], [(mk, eA g 0 3 mv)], wf, we, wk, wke, wp]) (ctX1_makeRoom hG _ (F := dF D) (isSt.r hF (fun _ h => jwl 5 rfl h)) (hE.mono (fun _ h => jwl 6 rfl h)) (jwl 9 rfl h1) hI.1 hA (by omega)) (by letI : DecidableEq (Nat × va_E) := fun _ _ => Classical.propDecidable _; exact List.perm_iff_count.mpr (fun a_ => by have e0_ := List.Perm.count_eq (hp) a_; simp only [List.flatten_cons, List.flatten_nil, jflat, List.cons_append, List.nil_append, List.count_append, List.count_cons, List.append_nil, List.count_nil, List.flatten_append, bkO, pgO, stO, eO, tkO, eA, nFl] at e0_ ⊢; omega)) ?_
  rintro v wd ⟨rfl, ⟨hne, rfl⟩ | ⟨he, k2, ess2, w2, we2, wl2, rfl, hA2, hF2, hE2⟩⟩
  · refine ⟨[w], [], (by letI : DecidableEq (Nat × va_E) := fun _ _ => Classical.propDecidable _; exact List.perm_iff_count.mpr (fun a_ => by have e0_ := List.Perm.count_eq (hp) a_; simp only [List.flatten_cons, List.flatten_nil, jflat, List.cons_append, List.nil_append, List.count_append, List.count_cons, List.append_nil, List.count_nil, List.flatten_append, bkO, pgO, stO, eO, tkO, eA, nFl] at e0_ ⊢; omega)), rfl, w, rfl, ?_⟩
    unfold dRoom
    rw [if_neg (by omega)]
    exact hD
  · unfold dRoom
    rw [if_pos (by omega)]
    refine ⟨[jflat [[(x, dkO (nFl (dN D) 0) f k2 lg cl io mk)], wl2, wa, [(cl, eQ g 4 3 (fun i => [c0, c1, c2][i]?))], [(c0, clO (dI D 0)), (c1, clO (dI D 1)), (c2, clO (dI D 2))], [(io, eA g 1 3 (opnF (dM D)))], [(mk, eA g 0 3 mv)], wf, we, w2, we2, wp]], wk ++ wke, (by letI : DecidableEq (Nat × va_E) := fun _ _ => Classical.propDecidable _; exact List.perm_iff_count.mpr (fun a_ => by simp only [List.flatten_cons, List.flatten_nil, jflat, List.cons_append, List.nil_append, List.count_append, List.count_cons, List.append_nil, List.count_nil, List.flatten_append, bkO, pgO, stO, eO, tkO, eA, nFl]; omega)), rfl, _, rfl, f, k2, lg, cl, io, mk, hf, hf, ess, ess2, [], c0, c1, c2, mv, wl2, wa, wf, we, w2, we2, wp, List.Perm.refl _, hF, hE, h1, hF2, hE2, h1, hA2, rfl, fun i a b h => by simp at h, hm⟩
theorem ctD_log {l : Launch} {g : jG} (hG : GS l g) (bg : va_W) {x a : Nat} {D : Dk} {b : Act3} {w : va_W} (hD : isD g x D w) (h60 : (dA D).length < 60) (hfl : dFl D ≤ (dA D).length) (hgr : dGr D < 2 ^ 10) : KX1_log l g 8 (uAdd (dA D).length) [.ref x, .ref a] bg [w, [(a, acO b)]] (fun v wd => v = none ∧ ∃ w2, wd = [w2] ∧ isD g x (nFl (dN D) (flN D), dF D, dK D, dA D ++ [b], dI D, dM D) w2) := by
  obtain ⟨f, k, lg, cl, io, mk, hf, hk, ess, essk, xs, c0, c1, c2, mv, wl, wa, wf, we, wk, wke, wp, hp, hF, hE, h1, hK, hG2, h2, hA, hl, ha, hm⟩ := hD
  rw [← hl]
  refine Ctr.frame (wr := [wa, [(cl, eQ g 4 3 (fun i => [c0, c1, c2][i]?))], [(c0, clO (dI D 0)), (c1, clO (dI D 1)), (c2, clO (dI D 2))], [(io, eA g 1 3 (opnF (dM D)))], [(mk, eA g 0 3 mv)], wf, we, wk, wke, wp, [(a, acO b)]]) (ctX1_log hG _ (n := dN D) (f := f) (k := k) (cl := cl) (io := io) (mk := mk) hA (fun y hy => (ha.el hl y hy).mono (fun _ h => jwl 0 rfl h)) (Or.inl ⟨_, jwl 10 rfl (List.mem_singleton.mpr rfl), acO_ty⟩) (by omega) (show dFl D ≤ xs.length by omega) hgr) (by letI : DecidableEq (Nat × va_E) := fun _ _ => Classical.propDecidable _; exact List.perm_iff_count.mpr (fun a_ => by have e0_ := List.Perm.count_eq (hp) a_; simp only [List.flatten_cons, List.flatten_nil, jflat, List.cons_append, List.nil_append, List.count_append, List.count_cons, List.append_nil, List.count_nil, List.flatten_append, bkO, pgO, stO, eO, tkO, eA, nFl] at e0_ ⊢; omega)) ?_
  rintro v wd ⟨rfl, wl2, rfl, hA2⟩
  have e1 : (if (dN D).1 ≤ xs.length + 1 - (dN D).2.2.2.2.2.2 then xs.length + 1 else (dN D).2.2.2.2.2.2) = flN D := by rw [hl]; rfl
  refine ⟨[jflat [[(x, dkO (nFl (dN D) (flN D)) f k lg cl io mk)], wl2, wa ++ [(a, acO b)], [(cl, eQ g 4 3 (fun i => [c0, c1, c2][i]?))], [(c0, clO (dI D 0)), (c1, clO (dI D 1)), (c2, clO (dI D 2))], [(io, eA g 1 3 (opnF (dM D)))], [(mk, eA g 0 3 mv)], wf, we, wk, wke, wp]], [], ?_, rfl, _, rfl, f, k, lg, cl, io, mk, hf, hk, ess, essk, xs ++ [a], c0, c1, c2, mv, wl2, wa ++ [(a, acO b)], wf, we, wk, wke, wp, List.Perm.refl _, hF, hE, h1, hK, hG2, h2, hA2, ?_, ?_, hm⟩
  · rw [← e1]
    exact (by letI : DecidableEq (Nat × va_E) := fun _ _ => Classical.propDecidable _; exact List.perm_iff_count.mpr (fun a_ => by simp only [List.flatten_cons, List.flatten_nil, jflat, List.cons_append, List.nil_append, List.count_append, List.count_cons, List.append_nil, List.count_nil, List.flatten_append, bkO, pgO, stO, eO, tkO, eA, nFl]; omega))
  · show (xs ++ [a]).length = (dA D ++ [b]).length
    simp [hl]
  · exact (ha.mono (fun _ h => List.mem_append_left _ h)).add hl (by simp)
def dClose (D : Dk) : Dk := (dN D, dF D, dK D, dA D, dI D, fun _ => none)
theorem ctD_closeAll {l : Launch} {g : jG} (hG : GS l g) (bg : va_W) {x : Nat} {D : Dk} {w : va_W} (hD : isD g x D w) : KX1_closeAll l g 1 0 [.ref x] bg [w] (fun v wd => v = none ∧ ∃ w2, wd = [w2] ∧ isD g x (dClose D) w2) := by
  obtain ⟨f, k, lg, cl, io, mk, hf, hk, ess, essk, xs, c0, c1, c2, mv, wl, wa, wf, we, wk, wke, wp, hp, hF, hE, h1, hK, hG2, h2, hA, hl, ha, hm⟩ := hD
  refine Ctr.frame (wr := [[(x, dkO (dN D) f k lg cl io mk)], wl, wa, [(cl, eQ g 4 3 (fun i => [c0, c1, c2][i]?))], [(c0, clO (dI D 0)), (c1, clO (dI D 1)), (c2, clO (dI D 2))], [(mk, eA g 0 3 mv)], wf, we, wk, wke, wp]) (ctX1_closeAll hG _ (n := dN D) (h := opnF (dM D)) (jwl 0 rfl (List.mem_singleton.mpr rfl))) (by letI : DecidableEq (Nat × va_E) := fun _ _ => Classical.propDecidable _; exact List.perm_iff_count.mpr (fun a_ => by have e0_ := List.Perm.count_eq (hp) a_; simp only [List.flatten_cons, List.flatten_nil, jflat, List.cons_append, List.nil_append, List.count_append, List.count_cons, List.append_nil, List.count_nil, List.flatten_append, bkO, pgO, stO, eO, tkO, eA, nFl] at e0_ ⊢; omega)) ?_
  rintro v wd ⟨rfl, rfl⟩
  have e0 : (fun _ => 0 : Nat → Int32) = opnF (fun _ => none) := by funext i; rfl
  refine ⟨[jflat [[(x, dkO (dN D) f k lg cl io mk)], wl, wa, [(cl, eQ g 4 3 (fun i => [c0, c1, c2][i]?))], [(c0, clO (dI D 0)), (c1, clO (dI D 1)), (c2, clO (dI D 2))], [(io, eA g 1 3 (opnF (fun _ => none)))], [(mk, eA g 0 3 mv)], wf, we, wk, wke, wp]], [], ?_, rfl, _, rfl, f, k, lg, cl, io, mk, hf, hk, ess, essk, xs, c0, c1, c2, mv, wl, wa, wf, we, wk, wke, wp, List.Perm.refl _, hF, hE, h1, hK, hG2, h2, hA, hl, ha, fun i a _ h => by cases h⟩
  rw [← e0]
  exact (by letI : DecidableEq (Nat × va_E) := fun _ _ => Classical.propDecidable _; exact List.perm_iff_count.mpr (fun a_ => by simp only [List.flatten_cons, List.flatten_nil, jflat, List.cons_append, List.nil_append, List.count_append, List.count_cons, List.append_nil, List.count_nil, List.flatten_append, bkO, pgO, stO, eO, tkO, eA, nFl]; omega))
/-- the file behind a crash -/
def dSafe (D : Dk) : Fl := doAll (dK D) ((dA D).take (dFl D))
def uRec (D : Dk) : Nat := uCopy (fB (dK D)) + uAs (dK D) ((dA D).take (dFl D))
theorem ctD_recovered {l : Launch} {g : jG} (hG : GS l g) (bg : va_W) {x : Nat} {D : Dk} (hD : rD g bg x D) (hI : InvD D) : KX1_recovered l g 14 (uRec D) [.ref x] bg [] (fun v wd => ∃ q2 h2 ess2 w we wh, v = some (.ref q2) ∧ wd = [w, we, wh] ∧ isF g h2 q2 (dSafe D) ess2 w ∧ entB we ess2 (fB (dSafe D)) ∧ ((h2, hsO (fCh (dSafe D)) (fSd (dSafe D))) ∈ bg ∨ (h2, hsO (fCh (dSafe D)) (fSd (dSafe D))) ∈ wh)) := by
  obtain ⟨f, k, lg, cl, io, mk, hf, hk, ess, essk, xs, c0, c1, c2, mv, a1, a2, a3, a4, a5, a6, a7, a8, a9, a10, a11, a12, a13, a14, a15⟩ := hD
  exact ctX1_recovered hG bg (n := dN D) (F := dK D) a1 a5 a6 a7 (fun _ h => h) hI.2.1 a8 a9 a10 hI.2.2.2.2.1 hI.2.2.2.2.2.1 hI.2.2.1.take
