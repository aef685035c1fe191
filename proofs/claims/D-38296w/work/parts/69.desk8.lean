/-! THE DESK, eighth: the acts -/
set_option maxRecDepth 100000
section JMV2
variable {g : jG} {Y : jY} {u pc : Nat} {L : List (Option Value)} {st : List Value} {ws : List va_W} {w0 w1 w2 w3 w4 w5 w6 w7 w8 w9 w10 w11 w12 w13 : va_W}
theorem j_mv8 (k : J g Y (w8 :: w0 :: w1 :: w2 :: w3 :: w4 :: w5 :: w6 :: w7 :: ws) u pc L st) : J g Y (w0 :: w1 :: w2 :: w3 :: w4 :: w5 :: w6 :: w7 :: w8 :: ws) u pc L st := j_mvG [w0, w1, w2, w3, w4, w5, w6, w7] ws w8 k
theorem j_mv9 (k : J g Y (w9 :: w0 :: w1 :: w2 :: w3 :: w4 :: w5 :: w6 :: w7 :: w8 :: ws) u pc L st) : J g Y (w0 :: w1 :: w2 :: w3 :: w4 :: w5 :: w6 :: w7 :: w8 :: w9 :: ws) u pc L st := j_mvG [w0, w1, w2, w3, w4, w5, w6, w7, w8] ws w9 k
theorem j_mv10 (k : J g Y (w10 :: w0 :: w1 :: w2 :: w3 :: w4 :: w5 :: w6 :: w7 :: w8 :: w9 :: ws) u pc L st) : J g Y (w0 :: w1 :: w2 :: w3 :: w4 :: w5 :: w6 :: w7 :: w8 :: w9 :: w10 :: ws) u pc L st := j_mvG [w0, w1, w2, w3, w4, w5, w6, w7, w8, w9] ws w10 k
theorem j_mv11 (k : J g Y (w11 :: w0 :: w1 :: w2 :: w3 :: w4 :: w5 :: w6 :: w7 :: w8 :: w9 :: w10 :: ws) u pc L st) : J g Y (w0 :: w1 :: w2 :: w3 :: w4 :: w5 :: w6 :: w7 :: w8 :: w9 :: w10 :: w11 :: ws) u pc L st := j_mvG [w0, w1, w2, w3, w4, w5, w6, w7, w8, w9, w10] ws w11 k
theorem j_mv12 (k : J g Y (w12 :: w0 :: w1 :: w2 :: w3 :: w4 :: w5 :: w6 :: w7 :: w8 :: w9 :: w10 :: w11 :: ws) u pc L st) : J g Y (w0 :: w1 :: w2 :: w3 :: w4 :: w5 :: w6 :: w7 :: w8 :: w9 :: w10 :: w11 :: w12 :: ws) u pc L st := j_mvG [w0, w1, w2, w3, w4, w5, w6, w7, w8, w9, w10, w11] ws w12 k
theorem j_mv13 (k : J g Y (w13 :: w0 :: w1 :: w2 :: w3 :: w4 :: w5 :: w6 :: w7 :: w8 :: w9 :: w10 :: w11 :: w12 :: ws) u pc L st) : J g Y (w0 :: w1 :: w2 :: w3 :: w4 :: w5 :: w6 :: w7 :: w8 :: w9 :: w10 :: w11 :: w12 :: w13 :: ws) u pc L st := j_mvG [w0, w1, w2, w3, w4, w5, w6, w7, w8, w9, w10, w11, w12] ws w13 k
end JMV2
/-- an answer: a value or NONE -/
def gA (v : Option Nat) : Int32 := match v with | some y => nI y | none => -1
abbrev fGt (F : Fl) (k : Nat) : Option Nat := fGet (fCh F) (fSd F) (fB F) k
theorem getRes {S : va_W} {ess : List (List Nat)} {B : List Bkt} {cap ch sd key : Nat} {v : Option Value} (hI : Inv cap ch sd B) (hE : entB S ess B) (h : (∃ i es e r, ess[bOf ch sd B key]? = some es ∧ jFst ((bAt B (bOf ch sd B key)).1.map (·.1)) key i ∧ es[i]? = some e ∧ (bAt B (bOf ch sd B key)).1[i]? = some r ∧ v = some (.ref e)) ∨ (key ∉ (bAt B (bOf ch sd B key)).1.map (·.1) ∧ v = some .null)) : (∃ e r, v = some (.ref e) ∧ (e, enO r) ∈ S ∧ fGet ch sd B key = some r.2) ∨ (v = some .null ∧ fGet ch sd B key = none) := by
  rcases h with ⟨i, es, e, r, h1, h2, h3, h4, rfl⟩ | ⟨h1, rfl⟩
  · have hn : bOf ch sd B key < B.length := adr_lt (by have := hI.1.2.2.1; omega)
    refine Or.inl ⟨e, r, rfl, (hE.2 _ es _ h1 (bAt_ex hn)).2 i e r h3 h4, ?_⟩
    unfold fGet
    rw [(jFst_find h2 h4).1]
    rfl
  · refine Or.inr ⟨rfl, ?_⟩
    unfold fGet
    rw [no_find h1]
    rfl
theorem ctD_logT {l : Launch} {g : jG} (hG : GS l g) (bg : va_W) {x a : Nat} {n : N7} {F K : Fl} {as : List Act3} {im : Nat → Nat} {mk : Nat → Option (Option Nat)} {b : Act3} {w : va_W} (hD : isD g x (n, F, K, as, im, mk) w) (h60 : as.length < 60) (hfl : n.2.2.2.2.2.2 ≤ as.length) (hgr : n.1 < 2 ^ 10) : KX1_log l g 8 (uAdd as.length) [.ref x, .ref a] bg [w, [(a, acO b)]] (fun v wd => v = none ∧ ∃ w2, wd = [w2] ∧ isD g x (nFl n (flN (n, F, K, as, im, mk)), F, K, as ++ [b], im, mk) w2) := ctD_log hG bg (D := (n, F, K, as, im, mk)) hD h60 hfl hgr
def uAct (D : Dk) (a : Act3) : Nat := uRoom D + (1 + (uA (dF D) a + uAdd (dA (dRoom D)).length))
theorem ctX1_put {l : Launch} {g : jG} (hG : GS l g) (bg : va_W) {x k v : Nat} {D : Dk} {w : va_W} (hD : isD g x D w) (hI : InvD D) (hk : k ≤ 9999) (hv : v ≤ 9999) (hr : fGt (dF D) k = none → rws (fB (dF D)) < 60) : KX1_put l g 15 (uAct D (0, k, v)) [.ref x, .int (nI k), .int (nI v)] bg [w] (fun y wd => y = some (.int (gA (fGt (dF D) k))) ∧ ∃ w2, wd = [w2] ∧ isD g x (dAct D (0, k, v)) w2) := by
  obtain ⟨f, kk, lg, cl, io, mk, hf, hk9, ess, essk, xs, c0, c1, c2, mv, a1, a2, a3, a4, -⟩ := hD.r (S := w) (fun _ h => h)
  obtain ⟨bl, tk, qs, z1, -⟩ := id a2
  obtain ⟨hI1, hI2, hI3⟩ := hI.room
  have hrw := hI.1.1.1.2.2.2.2.1
  have eu : uA (dF D) (0, k, v) = uPut (dF (dRoom D)) k v := by rw [hI3]; rfl
  unfold uAct
  refine Ctr.of [some (.ref x), some (.int (nI k)), some (.int (nI v)), none, none, none] hG (by decide +kernel) rfl (Nat.le_of_ble_eq_true rfl) (fun Y hl hN0 o r hIni => ?_)
  subst hl
  have hN : ∀ i, i < 6 → i < yN Y := fun i h => by rw [hN0]; exact h
  have tail : ∀ y3 : Option Value, jc1 y3 = true → J g Y [w] 0 77 [some (.ref x), some (.int (nI k)), some (.int (nI v)), y3, some (.int (gA (fGt (dF D) k))), none] [] := by
    intro y3 hy3
    refine j_ald_n o dX1_put_77 rfl rfl (q := 78) rfl ?_
    refine j_callV1 o (ctD_makeRoom hG _ hD hI) dX1_put_78 q1085 wdX1_makeRoom mdX1_makeRoom (jwm 0 rfl a1) (by rfl) (by rfl) rfl (Nat.le_of_ble_eq_true rfl) (Nat.le_of_ble_eq_true rfl) (by omega) (Nat.le_of_ble_eq_true rfl) (q := 81) rfl (fun v wd hpost => ?_)
    obtain ⟨rfl, w2, rfl, hD2⟩ := hpost
    dsimp only [List.cons_append, List.nil_append, Option.toList]
    refine j_new o (fs := fdX13) 1 dX1_put_81 kcX13 q1133 q1134 q96 dfX13 (by omega) (by decide) (q := 84) rfl (fun a hb_a => ?_)
    refine j_dup o dX1_put_84 rfl (q := 85) rfl ?_
    refine j_ild_n o dX1_put_85 rfl (q := 86) rfl ?_
    refine j_ild_n o dX1_put_86 rfl (q := 87) rfl ?_
    refine j_callI1 o (ctX13_init hG _ _ _ _) dX1_put_87 q1135 wdX13_init mdX13_init rfl rfl (Nat.le_of_ble_eq_true rfl) (Nat.le_of_ble_eq_true rfl) (by omega) (Nat.le_of_ble_eq_true rfl) (q := 90) rfl (fun v wd hpost => ?_)
    obtain ⟨rfl, rfl⟩ := hpost
    dsimp only [List.cons_append, List.nil_append, Option.toList]
    refine j_ast5 o dX1_put_90 rfl rfl (hN 5 (Nat.le_of_ble_eq_true rfl)) (q := 92) rfl ?_
    refine j_ald o dX1_put_92 rfl rfl (q := 94) rfl ?_
    refine j_ald_n o dX1_put_94 rfl rfl (q := 95) rfl ?_
    obtain ⟨f2, k2, lg2, cl2, io2, mk2, hf2, hk2, ess2, essk2, xs2, d0, d1, d2, mv2, wl, wa, wf, we, wk, wke, wp, hp, hF, hE, h1, hK, hG2, h2, hA, hl9, ha, hm⟩ := hD2
    refine j_mv1 ?_
    refine j_spP _ (hp) ?_
    dsimp only [List.cons_append, List.nil_append]
    refine j_gf o dX1_put_95 (jw 0 0 rfl rfl) kcX1 7 (Nat.le_of_ble_eq_true rfl) q360 rfl (q := 98) rfl ?_
    refine j_mv8 ?_
    refine j_mv8 ?_
    refine j_callF2 o (ctX13_on hG _ (k := k) (v := v) (jwl 10 rfl (List.mem_singleton.mpr rfl)) hF hE (jwl 9 rfl h1) hI1.1 (by omega) (by omega) (by rw [hI3]; exact hr)) dX1_put_98 q469 wfX13_on (show (parseMethodDescriptor "(LSplitpointer$Store;)V").map (fun d => d.parameters.length) = some 1 from by decide +kernel) (jw 12 0 rfl rfl) (by rfl) (by rfl) rfl (Nat.le_of_ble_eq_true rfl) (Nat.le_of_ble_eq_true rfl) (by omega) (Nat.le_of_ble_eq_true rfl) (q := 103) rfl (fun v wd hpost => ?_)
    obtain ⟨rfl, ess3, w3, we3, rfl, hS3, hE3⟩ := hpost
    dsimp only [List.cons_append, List.nil_append, Option.toList]
    refine j_mgN [_, _, _, _, _, _, _, _, _, _, _, _] (fun w4 hw4 => ?_)
    first | dsimp only [List.cons_append, List.nil_append] | skip
    have hD4 : isD g x (dN (dRoom D), fPut (dF (dRoom D)) k v, dK (dRoom D), dA (dRoom D), dI (dRoom D), dM (dRoom D)) w4 := ⟨f2, k2, lg2, cl2, io2, mk2, hf2, hk2, ess3, essk2, xs2, d0, d1, d2, mv2, wl, wa, w3, we3, wk, wke, wp, (by letI : DecidableEq (Nat × va_E) := fun _ _ => Classical.propDecidable _; exact List.perm_iff_count.mpr (fun a_ => by have e0_ := List.Perm.count_eq (hw4) a_; simp only [List.flatten_cons, List.flatten_nil, jflat, List.cons_append, List.nil_append, List.count_append, List.count_cons, List.append_nil, List.count_nil, List.flatten_append, bkO, pgO, stO, eO, tkO, eA, nFl, dN, dF, dK, dA, dI, dM] at e0_ ⊢; omega)), hS3, hE3, (by show (hf2, hsO (fPut (dF (dRoom D)) k v).2.1.1 (fPut (dF (dRoom D)) k v).2.1.2) ∈ wp; rw [(fPut_inv hI1.1 (by omega) (by omega) (by rw [hI3]; exact hr)).2.2.1]; exact h1), hK, hG2, h2, hA, hl9, ha, hm⟩
    obtain ⟨_, _, _, _, _, _, _, _, _, _, _, _, _, _, _, b1, -⟩ := hD4.r (S := w4) (fun _ h => h)
    refine j_ald_n o dX1_put_103 rfl rfl (q := 104) rfl ?_
    refine j_ald o dX1_put_104 rfl rfl (q := 106) rfl ?_
    refine j_callV2 o (ctD_logT hG _ (b := (0, k, v)) hD4 hI2 hI1.2.2.2.2.1 (show dGr (dRoom D) < 2 ^ 10 by have := hI1.2.2.2.2.2.2.2.1; omega)) dX1_put_106 q1102 wdX1_log mdX1_log (jwm 0 rfl b1) (by rfl) (by rfl) rfl (Nat.le_of_ble_eq_true rfl) (Nat.le_of_ble_eq_true rfl) (by omega) (Nat.le_of_ble_eq_true rfl) (q := 109) rfl (fun v wd hpost => ?_)
    obtain ⟨rfl, w5, rfl, hD5⟩ := hpost
    dsimp only [List.cons_append, List.nil_append, Option.toList]
    refine j_ild o dX1_put_109 rfl (q := 111) rfl ?_
    exact j_ret o r dX1_put_111 rfl [_] _ rfl (⟨rfl, w5, rfl, hD5⟩) (by omega)
  refine j_ild_n o dX1_put_0 rfl (q := 1) rfl ?_
  refine j_iconst o (nI 0) dX1_put_1 (by decide) (q := 2) rfl ?_
  refine j_sipush o (nI 9999) dX1_put_2 (by decide) (q := 5) rfl ?_
  refine j_callS0 o (ctX1_isIn hG _ _ _ _) dX1_put_5 q1057 wdX1_isIn mdX1_isIn rfl (Nat.le_of_ble_eq_true rfl) (Nat.le_of_ble_eq_true rfl) (by omega) (Nat.le_of_ble_eq_true rfl) (q := 8) rfl (fun v wd hpost => ?_)
  obtain ⟨rfl, rfl⟩ := hpost
  dsimp only [List.cons_append, List.nil_append, Option.toList]
  rw [isIn1 ⟨Nat.zero_le _, hk⟩ (by omega)]
  refine j_ifeqF o (t := 26) dX1_put_8 (by decide) (q := 11) rfl (by decide) ?_
  refine j_ild_n o dX1_put_11 rfl (q := 12) rfl ?_
  refine j_iconst o (nI 0) dX1_put_12 (by decide) (q := 13) rfl ?_
  refine j_sipush o (nI 9999) dX1_put_13 (by decide) (q := 16) rfl ?_
  refine j_callS0 o (ctX1_isIn hG _ _ _ _) dX1_put_16 q1057 wdX1_isIn mdX1_isIn rfl (Nat.le_of_ble_eq_true rfl) (Nat.le_of_ble_eq_true rfl) (by omega) (Nat.le_of_ble_eq_true rfl) (q := 19) rfl (fun v wd hpost => ?_)
  obtain ⟨rfl, rfl⟩ := hpost
  dsimp only [List.cons_append, List.nil_append, Option.toList]
  rw [isIn1 ⟨Nat.zero_le _, hv⟩ (by omega)]
  refine j_ifeqF o (t := 26) dX1_put_19 (by decide) (q := 22) rfl (by decide) ?_
  refine j_iconst o (nI 1) dX1_put_22 (by decide) (q := 23) rfl ?_
  refine j_goto o 27 dX1_put_23 (by decide) ?_
  refine j_callS0 o (ctX1_mustFit hG _ rfl) dX1_put_27 q1060 wdX1_mustFit mdX1_mustFit rfl (Nat.le_of_ble_eq_true rfl) (Nat.le_of_ble_eq_true rfl) (by omega) (Nat.le_of_ble_eq_true rfl) (q := 30) rfl (fun v wd hpost => ?_)
  obtain ⟨rfl, rfl⟩ := hpost
  dsimp only [List.cons_append, List.nil_append, Option.toList]
  refine j_ald_n o dX1_put_30 rfl rfl (q := 31) rfl ?_
  refine j_gf o dX1_put_31 (jwm 0 rfl a1) kcX1 7 (Nat.le_of_ble_eq_true rfl) q360 rfl (q := 34) rfl ?_
  refine j_ild_n o dX1_put_34 rfl (q := 35) rfl ?_
  refine j_callV0 o (ctX2_get hG _ (a2.mono (fun _ h => jwl 0 rfl h)) (a3.mono (fun _ h => jwl 0 rfl h)) (jwl 0 rfl a4) hI.1.1 hI.1.2.1 hI.1.2.2.1 (by omega)) dX1_put_35 q1034 wdX2_get mdX2_get (jwm 0 rfl z1) (by rfl) (by rfl) rfl (Nat.le_of_ble_eq_true rfl) (Nat.le_of_ble_eq_true rfl) (by omega) (Nat.le_of_ble_eq_true rfl) (q := 38) rfl (fun v wd hpost => ?_)
  obtain ⟨hres, rfl⟩ := hpost
  dsimp only [List.cons_append, List.nil_append, Option.toList]
  rcases getRes hI.1.1 a3 hres with ⟨e, r9, rfl, he, hg⟩ | ⟨rfl, hg⟩
  · refine j_ast3 o dX1_put_38 rfl rfl (hN 3 (Nat.le_of_ble_eq_true rfl)) (q := 39) rfl ?_
    refine j_ald_n o dX1_put_39 rfl rfl (q := 40) rfl ?_
    refine j_ifnn o 55 dX1_put_40 (by decide) ?_
    refine j_iconst o (nI 1) dX1_put_55 (by decide) (q := 56) rfl ?_
    refine j_goto o 60 dX1_put_56 (by decide) ?_
    refine j_callS0 o (ctX1_mustStand hG _ rfl) dX1_put_60 q1115 wdX1_mustStand mdX1_mustStand rfl (Nat.le_of_ble_eq_true rfl) (Nat.le_of_ble_eq_true rfl) (by omega) (Nat.le_of_ble_eq_true rfl) (q := 63) rfl (fun v wd hpost => ?_)
    obtain ⟨rfl, rfl⟩ := hpost
    dsimp only [List.cons_append, List.nil_append, Option.toList]
    refine j_ald_n o dX1_put_63 rfl rfl (q := 64) rfl ?_
    refine j_ifnn o 71 dX1_put_64 (by decide) ?_
    refine j_ald_n o dX1_put_71 rfl rfl (q := 72) rfl ?_
    refine j_gf o dX1_put_72 (jwm 0 rfl he) kcX11 1 (Nat.le_of_ble_eq_true rfl) q451 rfl (q := 75) rfl ?_
    have e9 : nI r9.2 = gA (fGt (dF D) k) := by rw [show fGt (dF D) k = some r9.2 from hg]; rfl
    rw [e9]
    refine j_ist4 o dX1_put_75 rfl (hN 4 (Nat.le_of_ble_eq_true rfl)) (q := 77) rfl ?_
    exact tail _ rfl
  · have hrr := hr hg
    refine j_ast3 o dX1_put_38 rfl rfl (hN 3 (Nat.le_of_ble_eq_true rfl)) (q := 39) rfl ?_
    refine j_ald_n o dX1_put_39 rfl rfl (q := 40) rfl ?_
    refine j_ifnnN o dX1_put_40 (q := 43) rfl ?_
    refine j_ald_n o dX1_put_43 rfl rfl (q := 44) rfl ?_
    refine j_gf o dX1_put_44 (jwm 0 rfl a1) kcX1 7 (Nat.le_of_ble_eq_true rfl) q360 rfl (q := 47) rfl ?_
    refine j_gf o dX1_put_47 (jwm 0 rfl z1) kcX2 5 (Nat.le_of_ble_eq_true rfl) q302 rfl (q := 50) rfl ?_
    refine j_bipush o (nI 60) dX1_put_50 (by decide) (q := 52) rfl ?_
    refine j_icgeF o (t := 59) dX1_put_52 (by decide) (q := 55) rfl (nI_ge (by omega) (by omega)) ?_
    refine j_iconst o (nI 1) dX1_put_55 (by decide) (q := 56) rfl ?_
    refine j_goto o 60 dX1_put_56 (by decide) ?_
    refine j_callS0 o (ctX1_mustStand hG _ rfl) dX1_put_60 q1115 wdX1_mustStand mdX1_mustStand rfl (Nat.le_of_ble_eq_true rfl) (Nat.le_of_ble_eq_true rfl) (by omega) (Nat.le_of_ble_eq_true rfl) (q := 63) rfl (fun v wd hpost => ?_)
    obtain ⟨rfl, rfl⟩ := hpost
    dsimp only [List.cons_append, List.nil_append, Option.toList]
    refine j_ald_n o dX1_put_63 rfl rfl (q := 64) rfl ?_
    refine j_ifnnN o dX1_put_64 (q := 67) rfl ?_
    refine j_iconst o (-1) dX1_put_67 (by decide) (q := 68) rfl ?_
    refine j_goto o 75 dX1_put_68 (by decide) ?_
    have e9 : (-1 : Int32) = gA (fGt (dF D) k) := by rw [show fGt (dF D) k = none from hg]; rfl
    rw [e9]
    refine j_ist4 o dX1_put_75 rfl (hN 4 (Nat.le_of_ble_eq_true rfl)) (q := 77) rfl ?_
    exact tail _ rfl
theorem ctxX1_putA {l : Launch} {g : jG} (hG : GS l g) (bg : va_W) {x : Nat} {p q : Int32} (h : ¬ (inI 9999 p ∧ inI 9999 q)) : EX1_put l g 8 1 [.ref x, .int p, .int q] bg xIAE := by
  refine CtrX.of [some (.ref x), some (.int p), some (.int q), none, none, none] hG (by decide +kernel) rfl (Nat.le_of_ble_eq_true rfl) (fun Y hl hN0 o r => ?_)
  subst hl
  have hN : ∀ i, i < 6 → i < yN Y := fun i h => by rw [hN0]; exact h
  refine j_ild_n o dX1_put_0 rfl (q := 1) rfl ?_
  refine j_iconst o (nI 0) dX1_put_1 (by decide) (q := 2) rfl ?_
  refine j_sipush o (nI 9999) dX1_put_2 (by decide) (q := 5) rfl ?_
  refine j_callS0 o (ctX1_isIn hG _ _ _ _) dX1_put_5 q1057 wdX1_isIn mdX1_isIn rfl (Nat.le_of_ble_eq_true rfl) (Nat.le_of_ble_eq_true rfl) (by omega) (Nat.le_of_ble_eq_true rfl) (q := 8) rfl (fun v wd hpost => ?_)
  obtain ⟨rfl, rfl⟩ := hpost
  dsimp only [List.cons_append, List.nil_append, Option.toList]
  by_cases h1 : inI 9999 p
  · rw [show (if nI 0 ≤ p ∧ p ≤ nI 9999 then 1 else 0 : Nat) = 1 from if_pos h1]
    refine j_ifeqF o (t := 26) dX1_put_8 (by decide) (q := 11) rfl (by decide) ?_
    refine j_ild_n o dX1_put_11 rfl (q := 12) rfl ?_
    refine j_iconst o (nI 0) dX1_put_12 (by decide) (q := 13) rfl ?_
    refine j_sipush o (nI 9999) dX1_put_13 (by decide) (q := 16) rfl ?_
    refine j_callS0 o (ctX1_isIn hG _ _ _ _) dX1_put_16 q1057 wdX1_isIn mdX1_isIn rfl (Nat.le_of_ble_eq_true rfl) (Nat.le_of_ble_eq_true rfl) (by omega) (Nat.le_of_ble_eq_true rfl) (q := 19) rfl (fun v wd hpost => ?_)
    obtain ⟨rfl, rfl⟩ := hpost
    dsimp only [List.cons_append, List.nil_append, Option.toList]
    rw [isIn0 (fun h2 => h ⟨h1, h2⟩)]
    refine j_ifeqT o 26 dX1_put_19 (by decide) (by decide) ?_
    refine j_iconst o (nI 0) dX1_put_26 (by decide) (q := 27) rfl ?_
    exact j_callXS o (ctxX1_mustFit hG _) dX1_put_27 q1060 wdX1_mustFit mdX1_mustFit rfl (Nat.le_of_ble_eq_true rfl) (Nat.le_of_ble_eq_true rfl) (by omega) (Nat.le_of_ble_eq_true rfl) (j_outX o r (by omega))
  · rw [isIn0 h1]
    refine j_ifeqT o 26 dX1_put_8 (by decide) (by decide) ?_
    refine j_iconst o (nI 0) dX1_put_26 (by decide) (q := 27) rfl ?_
    exact j_callXS o (ctxX1_mustFit hG _) dX1_put_27 q1060 wdX1_mustFit mdX1_mustFit rfl (Nat.le_of_ble_eq_true rfl) (Nat.le_of_ble_eq_true rfl) (by omega) (Nat.le_of_ble_eq_true rfl) (j_outX o r (by omega))
theorem ctxX1_putS {l : Launch} {g : jG} (hG : GS l g) (bg : va_W) {x k v : Nat} {D : Dk} (hD : rD g bg x D) (hI : InvD D) (hk : k ≤ 9999) (hv : v ≤ 9999) (hr : fGt (dF D) k = none) (h60 : 60 ≤ rws (fB (dF D))) : EX1_put l g 8 1 [.ref x, .int (nI k), .int (nI v)] bg xISE := by
  obtain ⟨f, kk, lg, cl, io, mk, hf, hk9, ess, essk, xs, c0, c1, c2, mv, a1, a2, a3, a4, -⟩ := hD
  obtain ⟨bl, tk, qs, z1, -⟩ := id a2
  have hrw := hI.1.1.1.2.2.2.2.1
  refine CtrX.of [some (.ref x), some (.int (nI k)), some (.int (nI v)), none, none, none] hG (by decide +kernel) rfl (Nat.le_of_ble_eq_true rfl) (fun Y hl hN0 o r => ?_)
  subst hl
  have hN : ∀ i, i < 6 → i < yN Y := fun i h => by rw [hN0]; exact h
  refine j_ild_n o dX1_put_0 rfl (q := 1) rfl ?_
  refine j_iconst o (nI 0) dX1_put_1 (by decide) (q := 2) rfl ?_
  refine j_sipush o (nI 9999) dX1_put_2 (by decide) (q := 5) rfl ?_
  refine j_callS0 o (ctX1_isIn hG _ _ _ _) dX1_put_5 q1057 wdX1_isIn mdX1_isIn rfl (Nat.le_of_ble_eq_true rfl) (Nat.le_of_ble_eq_true rfl) (by omega) (Nat.le_of_ble_eq_true rfl) (q := 8) rfl (fun v wd hpost => ?_)
  obtain ⟨rfl, rfl⟩ := hpost
  dsimp only [List.cons_append, List.nil_append, Option.toList]
  rw [isIn1 ⟨Nat.zero_le _, hk⟩ (by omega)]
  refine j_ifeqF o (t := 26) dX1_put_8 (by decide) (q := 11) rfl (by decide) ?_
  refine j_ild_n o dX1_put_11 rfl (q := 12) rfl ?_
  refine j_iconst o (nI 0) dX1_put_12 (by decide) (q := 13) rfl ?_
  refine j_sipush o (nI 9999) dX1_put_13 (by decide) (q := 16) rfl ?_
  refine j_callS0 o (ctX1_isIn hG _ _ _ _) dX1_put_16 q1057 wdX1_isIn mdX1_isIn rfl (Nat.le_of_ble_eq_true rfl) (Nat.le_of_ble_eq_true rfl) (by omega) (Nat.le_of_ble_eq_true rfl) (q := 19) rfl (fun v wd hpost => ?_)
  obtain ⟨rfl, rfl⟩ := hpost
  dsimp only [List.cons_append, List.nil_append, Option.toList]
  rw [isIn1 ⟨Nat.zero_le _, hv⟩ (by omega)]
  refine j_ifeqF o (t := 26) dX1_put_19 (by decide) (q := 22) rfl (by decide) ?_
  refine j_iconst o (nI 1) dX1_put_22 (by decide) (q := 23) rfl ?_
  refine j_goto o 27 dX1_put_23 (by decide) ?_
  refine j_callS0 o (ctX1_mustFit hG _ rfl) dX1_put_27 q1060 wdX1_mustFit mdX1_mustFit rfl (Nat.le_of_ble_eq_true rfl) (Nat.le_of_ble_eq_true rfl) (by omega) (Nat.le_of_ble_eq_true rfl) (q := 30) rfl (fun v wd hpost => ?_)
  obtain ⟨rfl, rfl⟩ := hpost
  dsimp only [List.cons_append, List.nil_append, Option.toList]
  refine j_ald_n o dX1_put_30 rfl rfl (q := 31) rfl ?_
  refine j_gf o dX1_put_31 (jb a1) kcX1 7 (Nat.le_of_ble_eq_true rfl) q360 rfl (q := 34) rfl ?_
  refine j_ild_n o dX1_put_34 rfl (q := 35) rfl ?_
  refine j_callV0 o (ctX2_get hG _ (a2.mono (fun _ => jmr)) (a3.mono (fun _ => jmr)) (jmr a4) hI.1.1 hI.1.2.1 hI.1.2.2.1 (by omega)) dX1_put_35 q1034 wdX2_get mdX2_get (jb z1) (by rfl) (by rfl) rfl (Nat.le_of_ble_eq_true rfl) (Nat.le_of_ble_eq_true rfl) (by omega) (Nat.le_of_ble_eq_true rfl) (q := 38) rfl (fun v wd hpost => ?_)
  obtain ⟨hres, rfl⟩ := hpost
  dsimp only [List.cons_append, List.nil_append, Option.toList]
  rcases getRes hI.1.1 a3 hres with ⟨e, r9, rfl, he, hg⟩ | ⟨rfl, hg⟩
  · cases hr.symm.trans hg
  · refine j_ast3 o dX1_put_38 rfl rfl (hN 3 (Nat.le_of_ble_eq_true rfl)) (q := 39) rfl ?_
    refine j_ald_n o dX1_put_39 rfl rfl (q := 40) rfl ?_
    refine j_ifnnN o dX1_put_40 (q := 43) rfl ?_
    refine j_ald_n o dX1_put_43 rfl rfl (q := 44) rfl ?_
    refine j_gf o dX1_put_44 (jb a1) kcX1 7 (Nat.le_of_ble_eq_true rfl) q360 rfl (q := 47) rfl ?_
    refine j_gf o dX1_put_47 (jb z1) kcX2 5 (Nat.le_of_ble_eq_true rfl) q302 rfl (q := 50) rfl ?_
    refine j_bipush o (nI 60) dX1_put_50 (by decide) (q := 52) rfl ?_
    refine j_icgeT o 59 dX1_put_52 (by decide) (nI_le (by omega) (by omega)) ?_
    refine j_iconst o (nI 0) dX1_put_59 (by decide) (q := 60) rfl ?_
    exact j_callXS o (ctxX1_mustStand hG _) dX1_put_60 q1115 wdX1_mustStand mdX1_mustStand rfl (Nat.le_of_ble_eq_true rfl) (Nat.le_of_ble_eq_true rfl) (by omega) (Nat.le_of_ble_eq_true rfl) (j_outX o r (by omega))
theorem ctX1_drop {l : Launch} {g : jG} (hG : GS l g) (bg : va_W) {x k : Nat} {D : Dk} {w : va_W} (hD : isD g x D w) (hI : InvD D) (hk : k ≤ 9999) (hr : (fGt (dF D) k).isSome = true) : KX1_drop l g 15 (uAct D (1, k, 0)) [.ref x, .int (nI k)] bg [w] (fun y wd => y = some (.int (gA (fGt (dF D) k))) ∧ ∃ w2, wd = [w2] ∧ isD g x (dAct D (1, k, 0)) w2) := by
  obtain ⟨f, kk, lg, cl, io, mk, hf, hk9, ess, essk, xs, c0, c1, c2, mv, a1, a2, a3, a4, -⟩ := hD.r (S := w) (fun _ h => h)
  obtain ⟨bl, tk, qs, z1, -⟩ := id a2
  obtain ⟨hI1, hI2, hI3⟩ := hI.room
  have hrw := hI.1.1.1.2.2.2.2.1
  have eu : uA (dF D) (1, k, 0) = uDrop (dF (dRoom D)) k := by rw [hI3]; rfl
  obtain ⟨i9, r8, g1, g2⟩ := some_first (show (fGet (fCh (dF (dRoom D))) (fSd (dF (dRoom D))) (fB (dF (dRoom D))) k).isSome = true by rw [hI3]; exact hr)
  unfold uAct
  refine Ctr.of [some (.ref x), some (.int (nI k)), none, none, none] hG (by decide +kernel) rfl (Nat.le_of_ble_eq_true rfl) (fun Y hl hN0 o r hIni => ?_)
  subst hl
  have hN : ∀ i, i < 5 → i < yN Y := fun i h => by rw [hN0]; exact h
  refine j_ild_n o dX1_drop_0 rfl (q := 1) rfl ?_
  refine j_callS0 o (ctX1_mustBeKey hG _ hk) dX1_drop_1 q1153 wdX1_mustBeKey mdX1_mustBeKey rfl (Nat.le_of_ble_eq_true rfl) (Nat.le_of_ble_eq_true rfl) (by omega) (Nat.le_of_ble_eq_true rfl) (q := 4) rfl (fun v wd hpost => ?_)
  obtain ⟨rfl, rfl⟩ := hpost
  dsimp only [List.cons_append, List.nil_append, Option.toList]
  refine j_ald_n o dX1_drop_4 rfl rfl (q := 5) rfl ?_
  refine j_gf o dX1_drop_5 (jwm 0 rfl a1) kcX1 7 (Nat.le_of_ble_eq_true rfl) q360 rfl (q := 8) rfl ?_
  refine j_ild_n o dX1_drop_8 rfl (q := 9) rfl ?_
  refine j_callV0 o (ctX2_get hG _ (a2.mono (fun _ h => jwl 0 rfl h)) (a3.mono (fun _ h => jwl 0 rfl h)) (jwl 0 rfl a4) hI.1.1 hI.1.2.1 hI.1.2.2.1 (by omega)) dX1_drop_9 q1034 wdX2_get mdX2_get (jwm 0 rfl z1) (by rfl) (by rfl) rfl (Nat.le_of_ble_eq_true rfl) (Nat.le_of_ble_eq_true rfl) (by omega) (Nat.le_of_ble_eq_true rfl) (q := 12) rfl (fun v wd hpost => ?_)
  obtain ⟨hres, rfl⟩ := hpost
  dsimp only [List.cons_append, List.nil_append, Option.toList]
  rcases getRes hI.1.1 a3 hres with ⟨e, r9, rfl, he, hg⟩ | ⟨rfl, hg⟩
  · refine j_ast2 o dX1_drop_12 rfl rfl (hN 2 (Nat.le_of_ble_eq_true rfl)) (q := 13) rfl ?_
    refine j_ald_n o dX1_drop_13 rfl rfl (q := 14) rfl ?_
    refine j_ifnn o 19 dX1_drop_14 (by decide) ?_
    refine j_ald_n o dX1_drop_19 rfl rfl (q := 20) rfl ?_
    refine j_gf o dX1_drop_20 (jwm 0 rfl he) kcX11 1 (Nat.le_of_ble_eq_true rfl) q451 rfl (q := 23) rfl ?_
    have e9 : nI r9.2 = gA (fGt (dF D) k) := by rw [show fGt (dF D) k = some r9.2 from hg]; rfl
    rw [e9]
    refine j_ist3 o dX1_drop_23 rfl (hN 3 (Nat.le_of_ble_eq_true rfl)) (q := 24) rfl ?_
    refine j_ald_n o dX1_drop_24 rfl rfl (q := 25) rfl ?_
    refine j_callV1 o (ctD_makeRoom hG _ hD hI) dX1_drop_25 q1085 wdX1_makeRoom mdX1_makeRoom (jwm 0 rfl a1) (by rfl) (by rfl) rfl (Nat.le_of_ble_eq_true rfl) (Nat.le_of_ble_eq_true rfl) (by omega) (Nat.le_of_ble_eq_true rfl) (q := 28) rfl (fun v wd hpost => ?_)
    obtain ⟨rfl, w2, rfl, hD2⟩ := hpost
    dsimp only [List.cons_append, List.nil_append, Option.toList]
    refine j_new o (fs := fdX14) 1 dX1_drop_28 kcX14 q1156 q1157 q97 dfX14 (by omega) (by decide) (q := 31) rfl (fun a hb_a => ?_)
    refine j_dup o dX1_drop_31 rfl (q := 32) rfl ?_
    refine j_ild_n o dX1_drop_32 rfl (q := 33) rfl ?_
    refine j_callI1 o (ctX14_init hG _ _ _) dX1_drop_33 q1158 wdX14_init mdX14_init rfl rfl (Nat.le_of_ble_eq_true rfl) (Nat.le_of_ble_eq_true rfl) (by omega) (Nat.le_of_ble_eq_true rfl) (q := 36) rfl (fun v wd hpost => ?_)
    obtain ⟨rfl, rfl⟩ := hpost
    dsimp only [List.cons_append, List.nil_append, Option.toList]
    refine j_ast4 o dX1_drop_36 rfl rfl (hN 4 (Nat.le_of_ble_eq_true rfl)) (q := 38) rfl ?_
    refine j_ald o dX1_drop_38 rfl rfl (q := 40) rfl ?_
    refine j_ald_n o dX1_drop_40 rfl rfl (q := 41) rfl ?_
    obtain ⟨f2, k2, lg2, cl2, io2, mk2, hf2, hk2, ess2, essk2, xs2, d0, d1, d2, mv2, wl, wa, wf, we, wk, wke, wp, hp, hF, hE, h1, hK, hG2, h2, hA, hl9, ha, hm⟩ := hD2
    refine j_mv1 ?_
    refine j_spP _ (hp) ?_
    dsimp only [List.cons_append, List.nil_append]
    refine j_gf o dX1_drop_41 (jw 0 0 rfl rfl) kcX1 7 (Nat.le_of_ble_eq_true rfl) q360 rfl (q := 44) rfl ?_
    refine j_mv7 ?_
    refine j_callF1 o (ctX14_on hG _ (k := k) (jwl 11 rfl (List.mem_singleton.mpr rfl)) hF (hE.mono (fun _ h => jwl 7 rfl h)) (jwl 10 rfl h1) hI1.1 (by omega) g1 g2) dX1_drop_44 q469 wfX14_on (show (parseMethodDescriptor "(LSplitpointer$Store;)V").map (fun d => d.parameters.length) = some 1 from by decide +kernel) (jw 12 0 rfl rfl) (by rfl) (by rfl) rfl (Nat.le_of_ble_eq_true rfl) (Nat.le_of_ble_eq_true rfl) (by omega) (Nat.le_of_ble_eq_true rfl) (q := 49) rfl (fun v wd hpost => ?_)
    obtain ⟨rfl, ess3, w3, rfl, hS3, hE3⟩ := hpost
    dsimp only [List.cons_append, List.nil_append, Option.toList]
    refine j_mgN [_, _, _, _, _, _, _, _, _, _, _, _] (fun w4 hw4 => ?_)
    first | dsimp only [List.cons_append, List.nil_append] | skip
    have hD4 : isD g x (dN (dRoom D), fDrop (dF (dRoom D)) k, dK (dRoom D), dA (dRoom D), dI (dRoom D), dM (dRoom D)) w4 := ⟨f2, k2, lg2, cl2, io2, mk2, hf2, hk2, ess3, essk2, xs2, d0, d1, d2, mv2, wl, wa, w3, we, wk, wke, wp, (by letI : DecidableEq (Nat × va_E) := fun _ _ => Classical.propDecidable _; exact List.perm_iff_count.mpr (fun a_ => by have e0_ := List.Perm.count_eq (hw4) a_; simp only [List.flatten_cons, List.flatten_nil, jflat, List.cons_append, List.nil_append, List.count_append, List.count_cons, List.append_nil, List.count_nil, List.flatten_append, bkO, pgO, stO, eO, tkO, eA, nFl, dN, dF, dK, dA, dI, dM] at e0_ ⊢; omega)), hS3, hE3 we hE, h1, hK, hG2, h2, hA, hl9, ha, hm⟩
    obtain ⟨_, _, _, _, _, _, _, _, _, _, _, _, _, _, _, b1, -⟩ := hD4.r (S := w4) (fun _ h => h)
    refine j_ald_n o dX1_drop_49 rfl rfl (q := 50) rfl ?_
    refine j_ald o dX1_drop_50 rfl rfl (q := 52) rfl ?_
    refine j_callV2 o (ctD_logT hG _ (b := (1, k, 0)) hD4 hI2 hI1.2.2.2.2.1 (show dGr (dRoom D) < 2 ^ 10 by have := hI1.2.2.2.2.2.2.2.1; omega)) dX1_drop_52 q1102 wdX1_log mdX1_log (jwm 0 rfl b1) (by rfl) (by rfl) rfl (Nat.le_of_ble_eq_true rfl) (Nat.le_of_ble_eq_true rfl) (by omega) (Nat.le_of_ble_eq_true rfl) (q := 55) rfl (fun v wd hpost => ?_)
    obtain ⟨rfl, w5, rfl, hD5⟩ := hpost
    dsimp only [List.cons_append, List.nil_append, Option.toList]
    refine j_ild_n o dX1_drop_55 rfl (q := 56) rfl ?_
    exact j_ret o r dX1_drop_56 rfl [_] _ rfl (⟨rfl, w5, rfl, hD5⟩) (by omega)
  · rw [show fGt (dF D) k = none from hg] at hr
    cases hr
theorem ctX1_dropN {l : Launch} {g : jG} (hG : GS l g) (bg : va_W) {x k : Nat} {D : Dk} (hD : rD g bg x D) (hI : InvD D) (hk : k ≤ 9999) (hr : fGt (dF D) k = none) : KX1_drop l g 15 0 [.ref x, .int (nI k)] bg [] (fun y wd => y = some (.int (-1)) ∧ wd = []) := by
  obtain ⟨f, kk, lg, cl, io, mk, hf, hk9, ess, essk, xs, c0, c1, c2, mv, a1, a2, a3, a4, -⟩ := hD
  obtain ⟨bl, tk, qs, z1, -⟩ := id a2
  refine Ctr.of [some (.ref x), some (.int (nI k)), none, none, none] hG (by decide +kernel) rfl (Nat.le_of_ble_eq_true rfl) (fun Y hl hN0 o r hIni => ?_)
  subst hl
  have hN : ∀ i, i < 5 → i < yN Y := fun i h => by rw [hN0]; exact h
  refine j_ild_n o dX1_drop_0 rfl (q := 1) rfl ?_
  refine j_callS0 o (ctX1_mustBeKey hG _ hk) dX1_drop_1 q1153 wdX1_mustBeKey mdX1_mustBeKey rfl (Nat.le_of_ble_eq_true rfl) (Nat.le_of_ble_eq_true rfl) (by omega) (Nat.le_of_ble_eq_true rfl) (q := 4) rfl (fun v wd hpost => ?_)
  obtain ⟨rfl, rfl⟩ := hpost
  dsimp only [List.cons_append, List.nil_append, Option.toList]
  refine j_ald_n o dX1_drop_4 rfl rfl (q := 5) rfl ?_
  refine j_gf o dX1_drop_5 (jb a1) kcX1 7 (Nat.le_of_ble_eq_true rfl) q360 rfl (q := 8) rfl ?_
  refine j_ild_n o dX1_drop_8 rfl (q := 9) rfl ?_
  refine j_callV0 o (ctX2_get hG _ (a2.mono (fun _ => jmr)) (a3.mono (fun _ => jmr)) (jmr a4) hI.1.1 hI.1.2.1 hI.1.2.2.1 (by omega)) dX1_drop_9 q1034 wdX2_get mdX2_get (jb z1) (by rfl) (by rfl) rfl (Nat.le_of_ble_eq_true rfl) (Nat.le_of_ble_eq_true rfl) (by omega) (Nat.le_of_ble_eq_true rfl) (q := 12) rfl (fun v wd hpost => ?_)
  obtain ⟨hres, rfl⟩ := hpost
  dsimp only [List.cons_append, List.nil_append, Option.toList]
  rcases getRes hI.1.1 a3 hres with ⟨e, r9, rfl, he, hg⟩ | ⟨rfl, hg⟩
  · cases hr.symm.trans hg
  · refine j_ast2 o dX1_drop_12 rfl rfl (hN 2 (Nat.le_of_ble_eq_true rfl)) (q := 13) rfl ?_
    refine j_ald_n o dX1_drop_13 rfl rfl (q := 14) rfl ?_
    refine j_ifnnN o dX1_drop_14 (q := 17) rfl ?_
    refine j_iconst o (-1) dX1_drop_17 (by decide) (q := 18) rfl ?_
    exact j_ret o r dX1_drop_18 rfl [] _ rfl (⟨rfl, rfl⟩) (by omega)
theorem ctxX1_drop {l : Launch} {g : jG} (hG : GS l g) (bg : va_W) {x : Nat} {p : Int32} (h : ¬ inI 9999 p) : EX1_drop l g 9 1 [.ref x, .int p] bg xIAE := by
  refine CtrX.of [some (.ref x), some (.int p), none, none, none] hG (by decide +kernel) rfl (Nat.le_of_ble_eq_true rfl) (fun Y hl hN0 o r => ?_)
  subst hl
  have hN : ∀ i, i < 5 → i < yN Y := fun i h => by rw [hN0]; exact h
  refine j_ild_n o dX1_drop_0 rfl (q := 1) rfl ?_
  exact j_callXS o (ctxX1_mustBeKey hG _ h) dX1_drop_1 q1153 wdX1_mustBeKey mdX1_mustBeKey rfl (Nat.le_of_ble_eq_true rfl) (Nat.le_of_ble_eq_true rfl) (by omega) (Nat.le_of_ble_eq_true rfl) (j_outX o r (by omega))
