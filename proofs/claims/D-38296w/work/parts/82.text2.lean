/-! TEXTS, second: builders and Strings -/
set_option maxRecDepth 100000
/-- the constant Strings' letters -/
def ksT : Nat → List Nat
  | 0 => [45]
  | 1 => []
  | 2 => [124]
  | _ => [32]
theorem ksT_len (i : Nat) (hi : i < 4) : ([1, 0, 1, 1] : List Nat).getD i 0 = (ksT i).length := by
  match i, hi with
  | 0, _ => rfl
  | 1, _ => rfl
  | 2, _ => rfl
  | 3, _ => rfl
theorem ksT_get (i : Nat) (hi : i < 4) {j x : Nat} (h : (ksT i)[j]? = some x) : ((([[45], [], [124], [32]] : List (List Int32)).getD i []).getD j 0) = nI x ∧ x < 128 := by
  match i, hi with
  | 0, _ => match j, h with | 0, h => cases h; exact ⟨rfl, by omega⟩
  | 1, _ => cases h
  | 2, _ => match j, h with | 0, h => cases h; exact ⟨rfl, by omega⟩
  | 3, _ => match j, h with | 0, h => cases h; exact ⟨rfl, by omega⟩
theorem ksT_l1 (i : Nat) : (ksT i).length ≤ 1 := by
  unfold ksT
  split <;> simp
/-- a builder's room for n letters, what was made for it in all -/
def cpc (n : Nat) : Nat := if n ≤ 16 then 16 else if n ≤ 34 then 34 else if n ≤ 70 then 70 else if n ≤ 142 then 142 else if n ≤ 286 then 286 else 574
def uCc (n : Nat) : Nat := if n ≤ 16 then 2 else if n ≤ 34 then 5 else if n ≤ 70 then 11 else if n ≤ 142 then 23 else if n ≤ 286 then 47 else 95
theorem cpc_le {n : Nat} (h : n ≤ 574) : n ≤ cpc n ∧ 16 ≤ cpc n ∧ cpc n ≤ 574 := by
  unfold cpc
  split
  · omega
  · split
    · omega
    · split
      · omega
      · split
        · omega
        · split <;> omega
def cpcB (n d : Nat) : Bool := !decide (n + d ≤ 574) || ((!decide (n + d ≤ cpc n) || (decide (cpc (n + d) = cpc n) && decide (uCc (n + d) = uCc n))) && (!decide (cpc n < n + d) || (decide (cpc (n + d) = 2 * cpc n + 2) && decide (uCc (n + d) = uCc n + ((2 * cpc n + 2) / 12 + 1)))))
theorem cpc_up0 : ((List.range 575).all fun n => (List.range 5).all (cpcB n)) = true := by decide +kernel
theorem cpc_up {n m : Nat} (h : n ≤ m) (h2 : m ≤ n + 4) (h9 : m ≤ 574) : (m ≤ cpc n → cpc m = cpc n ∧ uCc m = uCc n) ∧ (cpc n < m → cpc m = 2 * cpc n + 2 ∧ uCc m = uCc n + ((2 * cpc n + 2) / 12 + 1)) := by
  have h1 := List.all_eq_true.mp (List.all_eq_true.mp cpc_up0 n (List.mem_range.mpr (by omega))) (m - n) (List.mem_range.mpr (by omega))
  unfold cpcB at h1
  rw [show n + (m - n) = m by omega] at h1
  simp only [Bool.or_eq_true, Bool.not_eq_true', decide_eq_false_iff_not, Bool.and_eq_true, decide_eq_true_eq] at h1
  omega
abbrev sbO (v : Nat) (ml : Int32) (n : Nat) : va_E := eO 19 [.ref v, .int (nI 0), .int ml, .int (nI n)]
abbrev stgO (v : Nat) (h z : Int32) : va_E := eO 18 [.ref v, .int (nI 0), .int h, .int z]
def fitB (cap : Nat) (f : Nat → Int32) : Prop := ∀ i, i < cap → Jvm.fits .byte (.int (f i)) = true
/-- a builder that holds the letters t -/
def sbW (g : jG) (q : Nat) (t : List Nat) (w : va_W) : Prop := ∃ (v : Nat) (f : Nat → Int32) (ml : Int32), w = [(q, sbO v ml t.length), (v, eA g 2 (cpc t.length) f)] ∧ (∀ i x, t[i]? = some x → f i = nI x) ∧ fitB (cpc t.length) f
/-- a String of the letters t, made here -/
def stgR (g : jG) (S : va_W) (q : Nat) (t : List Nat) : Prop := ∃ (v : Nat) (h z : Int32) (f : Nat → Int32), (q, stgO v h z) ∈ S ∧ (v, eA g 2 t.length f) ∈ S ∧ ∀ i x, t[i]? = some x → f i = nI x
theorem stgR.mono {g : jG} {S S2 : va_W} {q : Nat} {t : List Nat} (h : stgR g S q t) (hs : ∀ c ∈ S, c ∈ S2) : stgR g S2 q t := by
  obtain ⟨v, a, b, f, h1, h2, h3⟩ := h
  exact ⟨v, a, b, f, hs _ h1, hs _ h2, h3⟩
section KSV
variable {g : jG} {Y : jY} {bg : va_W} {own : String} {cc : ByteArray} {lev U : Nat}
theorem jOk.ksC (o : jOk g Y bg own cc lev U) {i : Nat} (hi : i < 4) : va_OF "java/lang/String" "coder" "B" (.int 0) (jad g (300 + i)) (yA Y) (yS Y) (yS Y).heap := (o.ks.1 i hi).2.1
theorem jOk.ksV (o : jOk g Y bg own cc lev U) {i : Nat} (hi : i < 4) : va_OF "java/lang/String" "value" "[B" (.ref (jad g (310 + i))) (jad g (300 + i)) (yA Y) (yS Y) (yS Y).heap := (o.ks.1 i hi).2.2.1
theorem jOk.ksA (o : jOk g Y bg own cc lev U) {i : Nat} (hi : i < 4) : va_T .byte (jad g (310 + i)) (([1, 0, 1, 1] : List Nat).getD i 0) (fun j => .int (((([[45], [], [124], [32]] : List (List Int32)).getD i []).getD j 0))) (yA Y) (yS Y) (yS Y).heap := (o.ks.1 i hi).2.2.2
end KSV
theorem ctJ9_coderK {l : Launch} {g : jG} (hG : GS l g) (bg : va_W) {i : Nat} (hi : i < 4) : KJ9_coder l g 1 0 [.ref (jad g (300 + i))] bg [] (fun v wd => v = some (.int (nI 0)) ∧ wd = []) := by
  refine Ctr.of [some (.ref (jad g (300 + i)))] hG (by decide +kernel) rfl (Nat.le_of_ble_eq_true rfl) (fun Y hl hN0 o r hIni => ?_)
  subst hl
  have hN : ∀ i, i < 1 → i < yN Y := fun i h => by rw [hN0]; exact h
  refine j_gs o dJ9_coder_0 o.kf.2.2.2.2.2.2.2.2.2.2.2.2.1 q814 (q := 3) rfl ?_
  refine j_ifeqF o (t := 13) dJ9_coder_3 (by decide) (q := 6) rfl (by decide) ?_
  refine j_ald_n o dJ9_coder_6 rfl rfl (q := 7) rfl ?_
  refine j_ksf o dJ9_coder_7 (o.ksC hi) q998 (q := 10) rfl ?_
  refine j_goto o 14 dJ9_coder_10 (by decide) ?_
  exact j_ret o r dJ9_coder_14 rfl [] _ rfl (⟨rfl, rfl⟩) (by omega)
theorem ctJ9_coder {l : Launch} {g : jG} (hG : GS l g) (bg : va_W) {q v : Nat} {h z : Int32} (hq : (q, stgO v h z) ∈ bg) : KJ9_coder l g 1 0 [.ref q] bg [] (fun v wd => v = some (.int (nI 0)) ∧ wd = []) := by
  refine Ctr.of [some (.ref q)] hG (by decide +kernel) rfl (Nat.le_of_ble_eq_true rfl) (fun Y hl hN0 o r hIni => ?_)
  subst hl
  have hN : ∀ i, i < 1 → i < yN Y := fun i h => by rw [hN0]; exact h
  refine j_gs o dJ9_coder_0 o.kf.2.2.2.2.2.2.2.2.2.2.2.2.1 q814 (q := 3) rfl ?_
  refine j_ifeqF o (t := 13) dJ9_coder_3 (by decide) (q := 6) rfl (by decide) ?_
  refine j_ald_n o dJ9_coder_6 rfl rfl (q := 7) rfl ?_
  refine j_gf o dJ9_coder_7 (jb hq) kcJ9 1 (Nat.le_of_ble_eq_true rfl) q998 rfl (q := 10) rfl ?_
  refine j_goto o 14 dJ9_coder_10 (by decide) ?_
  exact j_ret o r dJ9_coder_14 rfl [] _ rfl (⟨rfl, rfl⟩) (by omega)
section JC2
variable {g : jG} {Y : jY} {bg : va_W} {own : String} {cc : ByteArray} {lev U : Nat} {u uc pc q : Nat} {L : List (Option Value)} {st : List Value}
theorem j_callC2 (o : jOk g Y bg own cc lev U) {C : String} {y : MethodName} {idx maxL lv : Nat} {bytes : ByteArray} {ret : Option FieldType} {As : List Value} {w0 w1 : va_W} {wr : List va_W} {post : Option Value → List va_W → Prop} {rest stk : List Value} {b : Nat} (hct : Ctr (yL Y) g y bytes maxL ret lv uc (.ref b :: As) (wr.flatten ++ bg) [w0, w1] post) (hd : decode cc pc = .ok (.invokevirtual idx, 3)) (hl : Cond.methodLink own idx y ∈ lw_all) (hin : Cond.instanceMethod y ∈ lw_all) (hse : (Cond.selects C y y).before (yV Y) (yS Y) = true) (hini : Cond.initialized y.cls ∈ lw_all) (hco : Cond.code y bytes maxL ret ∈ lw_all) (hmd : jMd y As.length) (hm : jRC g Y (w0 :: w1 :: wr) C b) (hstk : stk = As.reverse ++ .ref b :: rest) (hlv : lv + 1 ≤ lev) (hml : maxL ≤ 45) (hu : u + uc ≤ U) (hst : (rest.map fun v => v.category).sum ≤ 8) (e : pc + 3 = q) (k : ∀ v wd, post v wd → J g Y (wd ++ wr) (u + uc) q L (v.toList ++ rest)) : J g Y (w0 :: w1 :: wr) u pc L stk := j_callC (wc := [w0, w1]) o hct hd hl hin hse hini hco hmd hm hstk hlv hml hu hst e k
end JC2
theorem sub_le0 {a b : Nat} (ha : a < 2 ^ 30) (hb : b < 2 ^ 30) : nI a - nI b ≤ 0 ↔ a ≤ b := by
  rw [Int32.le_iff_toInt_le, show (0 : Int32).toInt = 0 from rfl, pk_sub_toInt (by omega) (by omega)]
  omega
theorem ctJ9_lengthK {l : Launch} {g : jG} (hG : GS l g) (bg : va_W) {i : Nat} (hi : i < 4) : KJ9_length l g 2 0 [.ref (jad g (300 + i))] bg [] (fun v wd => v = some (.int (nI (ksT i).length)) ∧ wd = []) := by
  refine Ctr.of [some (.ref (jad g (300 + i)))] hG (by decide +kernel) rfl (Nat.le_of_ble_eq_true rfl) (fun Y hl hN0 o r hIni => ?_)
  subst hl
  have hN : ∀ i, i < 1 → i < yN Y := fun i h => by rw [hN0]; exact h
  refine j_ald_n o dJ9_length_0 rfl rfl (q := 1) rfl ?_
  refine j_ksf o dJ9_length_1 (o.ksV hi) q997 (q := 4) rfl ?_
  refine j_tlen o dJ9_length_4 (o.ksA hi) (q := 5) rfl ?_
  rw [ksT_len i hi]
  refine j_ald_n o dJ9_length_5 rfl rfl (q := 6) rfl ?_
  refine j_callVc o (ctJ9_coderK hG _ hi) dJ9_length_6 q810 wdJ9_coder mdJ9_coder (jRC.str o hi) rfl (Nat.le_of_ble_eq_true rfl) (Nat.le_of_ble_eq_true rfl) (by omega) (Nat.le_of_ble_eq_true rfl) (q := 9) rfl (fun v wd hpost => ?_)
  obtain ⟨rfl, rfl⟩ := hpost
  dsimp only [List.cons_append, List.nil_append, Option.toList]
  refine j_ishr o dJ9_length_9 (q := 10) rfl ?_
  refine j_topi o (nI (ksT i).length) (sb_shr0 _) ?_
  exact j_ret o r dJ9_length_10 rfl [] _ rfl (⟨rfl, rfl⟩) (by omega)
theorem ctJ9_length {l : Launch} {g : jG} (hG : GS l g) (bg : va_W) {q : Nat} {t : List Nat} (hq : stgR g bg q t) : KJ9_length l g 2 0 [.ref q] bg [] (fun v wd => v = some (.int (nI t.length)) ∧ wd = []) := by
  obtain ⟨v, h, z, f, h1, h2, h3⟩ := hq
  refine Ctr.of [some (.ref q)] hG (by decide +kernel) rfl (Nat.le_of_ble_eq_true rfl) (fun Y hl hN0 o r hIni => ?_)
  subst hl
  have hN : ∀ i, i < 1 → i < yN Y := fun i h => by rw [hN0]; exact h
  refine j_ald_n o dJ9_length_0 rfl rfl (q := 1) rfl ?_
  refine j_gf o dJ9_length_1 (jb h1) kcJ9 0 (Nat.le_of_ble_eq_true rfl) q997 rfl (q := 4) rfl ?_
  refine j_alen o dJ9_length_4 (n := t.length) (jb h2) rfl rfl (q := 5) rfl ?_
  refine j_ald_n o dJ9_length_5 rfl rfl (q := 6) rfl ?_
  refine j_callV0 o (ctJ9_coder hG _ (jmr h1)) dJ9_length_6 q810 wdJ9_coder mdJ9_coder (jb h1) (by rfl) (by rfl) rfl (Nat.le_of_ble_eq_true rfl) (Nat.le_of_ble_eq_true rfl) (by omega) (Nat.le_of_ble_eq_true rfl) (q := 9) rfl (fun v wd hpost => ?_)
  obtain ⟨rfl, rfl⟩ := hpost
  dsimp only [List.cons_append, List.nil_append, Option.toList]
  refine j_ishr o dJ9_length_9 (q := 10) rfl ?_
  refine j_topi o (nI t.length) (sb_shr0 _) ?_
  exact j_ret o r dJ9_length_10 rfl [] _ rfl (⟨rfl, rfl⟩) (by omega)
theorem ctJ9_getBytes {l : Launch} {g : jG} (hG : GS l g) (bg : va_W) {i n b cap : Nat} {f : Nat → Int32} (hi : i < 4) (hc : n + (ksT i).length ≤ cap) (h9 : cap < 2 ^ 20) (hf : fitB cap f) : KJ9_getBytes l g 2 0 [.ref (jad g (300 + i)), .ref b, .int (nI n), .int (nI 0)] bg [[(b, eA g 2 cap f)]] (fun v wd => v = none ∧ ∃ f2, wd = [[(b, eA g 2 cap f2)]] ∧ (∀ j x, (ksT i)[j]? = some x → f2 (n + j) = nI x) ∧ (∀ j, j < n → f2 j = f j) ∧ fitB cap f2) := by
  have hl1 := ksT_l1 i
  refine Ctr.of [some (.ref (jad g (300 + i))), some (.ref b), some (.int (nI n)), some (.int (nI 0))] hG (by decide +kernel) rfl (Nat.le_of_ble_eq_true rfl) (fun Y hl hN0 o r hIni => ?_)
  subst hl
  have hN : ∀ i, i < 4 → i < yN Y := fun i h => by rw [hN0]; exact h
  refine j_ald_n o dJ9_getBytes_0 rfl rfl (q := 1) rfl ?_
  refine j_callVc o (ctJ9_coderK hG _ hi) dJ9_getBytes_1 q810 wdJ9_coder mdJ9_coder (jRC.str o hi) rfl (Nat.le_of_ble_eq_true rfl) (Nat.le_of_ble_eq_true rfl) (by omega) (Nat.le_of_ble_eq_true rfl) (q := 4) rfl (fun v wd hpost => ?_)
  obtain ⟨rfl, rfl⟩ := hpost
  dsimp only [List.cons_append, List.nil_append, Option.toList]
  refine j_ild_n o dJ9_getBytes_4 rfl (q := 5) rfl ?_
  refine j_icneF o (t := 28) dJ9_getBytes_5 (by decide) (q := 8) rfl rfl ?_
  refine j_ald_n o dJ9_getBytes_8 rfl rfl (q := 9) rfl ?_
  refine j_ksf o dJ9_getBytes_9 (o.ksV hi) q997 (q := 12) rfl ?_
  refine j_iconst o (nI 0) dJ9_getBytes_12 (by decide) (q := 13) rfl ?_
  refine j_ald_n o dJ9_getBytes_13 rfl rfl (q := 14) rfl ?_
  refine j_ild_n o dJ9_getBytes_14 rfl (q := 15) rfl ?_
  refine j_ild_n o dJ9_getBytes_15 rfl (q := 16) rfl ?_
  refine j_ishl o dJ9_getBytes_16 (q := 17) rfl ?_
  refine j_topi o (nI n) (sb_shl0 _) ?_
  refine j_ald_n o dJ9_getBytes_17 rfl rfl (q := 18) rfl ?_
  refine j_ksf o dJ9_getBytes_18 (o.ksV hi) q997 (q := 21) rfl ?_
  refine j_tlen o dJ9_getBytes_21 (o.ksA hi) (q := 22) rfl ?_
  rw [ksT_len i hi]
  refine j_copyT o (by omega) dJ9_getBytes_22 q847 0 0 rfl rfl (o.ksA hi) (fun j hj => ?_) (by rw [ksT_len i hi]; omega) hc (by rw [ksT_len i hi]; omega) (by omega) (by decide) (q := 25) rfl ?_
  · obtain ⟨x, hx⟩ := get_ex (xs := ksT i) (i := j) hj
    rw [Nat.zero_add]
    rw [(ksT_get i hi hx).1]
    exact fit_b x (ksT_get i hi hx).2
  dsimp only [List.set]
  refine j_goto o 43 dJ9_getBytes_25 (by decide) ?_
  have e1 : ∀ j x, (ksT i)[j]? = some x → va_cpy (fun j => ((([[45], [], [124], [32]] : List (List Int32)).getD i []).getD j 0)) f 0 n (ksT i).length (n + j) = nI x := by
    intro j x hx
    have := get_lt hx
    unfold va_cpy
    rw [if_pos (by omega), show 0 + (n + j - n) = j by omega]
    exact (ksT_get i hi hx).1
  have e2 : ∀ j, j < n → va_cpy (fun j => ((([[45], [], [124], [32]] : List (List Int32)).getD i []).getD j 0)) f 0 n (ksT i).length j = f j := by
    intro j hj
    unfold va_cpy
    rw [if_neg (by omega)]
  have e3 : fitB cap (va_cpy (fun j => ((([[45], [], [124], [32]] : List (List Int32)).getD i []).getD j 0)) f 0 n (ksT i).length) := by
    intro j hj
    by_cases h : n ≤ j ∧ j < n + (ksT i).length
    · obtain ⟨x, hx⟩ := get_ex (xs := ksT i) (i := j - n) (by omega)
      have := e1 (j - n) x hx
      rw [show n + (j - n) = j by omega] at this
      rw [this]
      exact fit_b x (ksT_get i hi hx).2
    · unfold va_cpy
      rw [if_neg (by omega)]
      exact hf j hj
  exact j_vret o r dJ9_getBytes_43 [_] _ rfl (⟨rfl, _, rfl, e1, e2, e3⟩) (by omega)
theorem ctJ20_init {l : Launch} {g : jG} (hG : GS l g) (bg : va_W) {q : Nat} : KJ20_init l g 2 2 [.ref q, .int (nI 16)] bg [[(q, eO 19 fdJ21)]] (fun v wd => v = none ∧ ∃ w, wd = [w] ∧ sbW g q [] w) := by
  refine Ctr.of [some (.ref q), some (.int (nI 16))] hG (by decide +kernel) rfl (Nat.le_of_ble_eq_true rfl) (fun Y hl hN0 o r hIni => ?_)
  subst hl
  have hN : ∀ i, i < 2 → i < yN Y := fun i h => by rw [hN0]; exact h
  refine j_ald_n o dJ20_init_0 rfl rfl (q := 1) rfl ?_
  refine j_obj o (Nat.le_of_ble_eq_true rfl) dJ20_init_1 q718 q110 q111 (Nat.le_of_ble_eq_true rfl) (q := 4) rfl ?_
  refine j_gs o dJ20_init_4 o.kf.2.2.2.2.2.2.2.2.2.2.2.2.1 q719 (q := 7) rfl ?_
  refine j_ifeqF o (t := 25) dJ20_init_7 (by decide) (q := 10) rfl (by decide) ?_
  refine j_ald_n o dJ20_init_10 rfl rfl (q := 11) rfl ?_
  refine j_ild_n o dJ20_init_11 rfl (q := 12) rfl ?_
  refine j_newB o 2 dJ20_init_12 (by first | decide | omega) (by omega) (by first | decide | omega) (q := 14) rfl (fun v hb_v => ?_)
  refine j_pf o dJ20_init_14 1 0 rfl rfl kcJ21 0 (Nat.le_of_ble_eq_true rfl) q728 rfl rfl rfl (Nat.le_of_ble_eq_true rfl) (q := 17) rfl ?_
  dsimp only [List.set]
  refine j_ald_n o dJ20_init_17 rfl rfl (q := 18) rfl ?_
  refine j_iconst o (nI 0) dJ20_init_18 (by decide) (q := 19) rfl ?_
  refine j_pf o dJ20_init_19 1 0 rfl rfl kcJ21 1 (Nat.le_of_ble_eq_true rfl) q729 rfl rfl rfl (Nat.le_of_ble_eq_true rfl) (q := 22) rfl ?_
  dsimp only [List.set]
  refine j_goto o 38 dJ20_init_22 (by decide) ?_
  refine j_mgN [_, _] (fun w4 hw4 => ?_)
  first | dsimp only [List.cons_append, List.nil_append] | skip
  refine j_pm [[(q, sbO v 0 0), (v, eA g 2 (cpc 0) (fun _ => 0))]] (by rw [List.flatten_cons, List.flatten_nil, List.append_nil, List.flatten_cons, List.flatten_nil, List.append_nil]; exact hw4.trans (List.Perm.swap _ _ _)) ?_
  exact j_vret o r dJ20_init_38 [_] _ rfl (⟨rfl, _, rfl, v, (fun _ => 0), 0, rfl, fun i x h => by simp at h, fun i hi => by show Jvm.fits .byte (.int 0) = true; rfl⟩) (by omega)
theorem ctJ21_init {l : Launch} {g : jG} (hG : GS l g) (bg : va_W) {q : Nat} : KJ21_init l g 3 2 [.ref q] bg [[(q, eO 19 fdJ21)]] (fun v wd => v = none ∧ ∃ w, wd = [w] ∧ sbW g q [] w) := by
  refine Ctr.of [some (.ref q)] hG (by decide +kernel) rfl (Nat.le_of_ble_eq_true rfl) (fun Y hl hN0 o r hIni => ?_)
  subst hl
  have hN : ∀ i, i < 1 → i < yN Y := fun i h => by rw [hN0]; exact h
  refine j_ald_n o dJ21_init_0 rfl rfl (q := 1) rfl ?_
  refine j_bipush o (nI 16) dJ21_init_1 (by decide) (q := 3) rfl ?_
  refine j_callI1 o (ctJ20_init hG _) dJ21_init_3 q715 wdJ20_init mdJ20_init rfl rfl (Nat.le_of_ble_eq_true rfl) (Nat.le_of_ble_eq_true rfl) (by omega) (Nat.le_of_ble_eq_true rfl) (q := 6) rfl (fun v wd hpost => ?_)
  obtain ⟨rfl, w, rfl, hw⟩ := hpost
  dsimp only [List.cons_append, List.nil_append, Option.toList]
  exact j_vret o r dJ21_init_6 [_] _ rfl (⟨rfl, w, rfl, hw⟩) (by omega)
theorem ctJ20_isLatin1 {l : Launch} {g : jG} (hG : GS l g) (bg : va_W) {q v n : Nat} {ml : Int32} (hq : (q, sbO v ml n) ∈ bg) : KJ20_isLatin1 l g 1 0 [.ref q] bg [] (fun v wd => v = some (.int (nI 1)) ∧ wd = []) := by
  refine Ctr.of [some (.ref q)] hG (by decide +kernel) rfl (Nat.le_of_ble_eq_true rfl) (fun Y hl hN0 o r hIni => ?_)
  subst hl
  have hN : ∀ i, i < 1 → i < yN Y := fun i h => by rw [hN0]; exact h
  refine j_gs o dJ20_isLatin1_0 o.kf.2.2.2.2.2.2.2.2.2.2.2.2.1 q719 (q := 3) rfl ?_
  refine j_ifeqF o (t := 17) dJ20_isLatin1_3 (by decide) (q := 6) rfl (by decide) ?_
  refine j_ald_n o dJ20_isLatin1_6 rfl rfl (q := 7) rfl ?_
  refine j_gf o dJ20_isLatin1_7 (jb hq) kcJ21 1 (Nat.le_of_ble_eq_true rfl) q729 rfl (q := 10) rfl ?_
  refine j_ifneF o (t := 17) dJ20_isLatin1_10 (by decide) (q := 13) rfl rfl ?_
  refine j_iconst o (nI 1) dJ20_isLatin1_13 (by decide) (q := 14) rfl ?_
  refine j_goto o 18 dJ20_isLatin1_14 (by decide) ?_
  exact j_ret o r dJ20_isLatin1_18 rfl [] _ rfl (⟨rfl, rfl⟩) (by omega)
theorem ctJ20_getValue {l : Launch} {g : jG} (hG : GS l g) (bg : va_W) {q v n : Nat} {ml : Int32} (hq : (q, sbO v ml n) ∈ bg) : KJ20_getValue l g 1 0 [.ref q] bg [] (fun y wd => y = some (.ref v) ∧ wd = []) := by
  refine Ctr.of [some (.ref q)] hG (by decide +kernel) rfl (Nat.le_of_ble_eq_true rfl) (fun Y hl hN0 o r hIni => ?_)
  subst hl
  have hN : ∀ i, i < 1 → i < yN Y := fun i h => by rw [hN0]; exact h
  refine j_ald_n o dJ20_getValue_0 rfl rfl (q := 1) rfl ?_
  refine j_gf o dJ20_getValue_1 (jb hq) kcJ21 0 (Nat.le_of_ble_eq_true rfl) q728 rfl (q := 4) rfl ?_
  exact j_aret o r dJ20_getValue_4 (by first | exact Or.inl ⟨_, rfl⟩ | exact Or.inr ⟨_, rfl⟩) rfl [] _ rfl (⟨rfl, rfl⟩) (by omega)
theorem ctJ20_length {l : Launch} {g : jG} (hG : GS l g) (bg : va_W) {q v n : Nat} {ml : Int32} (hq : (q, sbO v ml n) ∈ bg) : KJ20_length l g 1 0 [.ref q] bg [] (fun y wd => y = some (.int (nI n)) ∧ wd = []) := by
  refine Ctr.of [some (.ref q)] hG (by decide +kernel) rfl (Nat.le_of_ble_eq_true rfl) (fun Y hl hN0 o r hIni => ?_)
  subst hl
  have hN : ∀ i, i < 1 → i < yN Y := fun i h => by rw [hN0]; exact h
  refine j_ald_n o dJ20_length_0 rfl rfl (q := 1) rfl ?_
  refine j_gf o dJ20_length_1 (jb hq) kcJ21 3 (Nat.le_of_ble_eq_true rfl) q731 rfl (q := 4) rfl ?_
  exact j_ret o r dJ20_length_4 rfl [] _ rfl (⟨rfl, rfl⟩) (by omega)
theorem ctJ21_length {l : Launch} {g : jG} (hG : GS l g) (bg : va_W) {q v n : Nat} {ml : Int32} (hq : (q, sbO v ml n) ∈ bg) : KJ21_length l g 2 0 [.ref q] bg [] (fun y wd => y = some (.int (nI n)) ∧ wd = []) := by
  refine Ctr.of [some (.ref q)] hG (by decide +kernel) rfl (Nat.le_of_ble_eq_true rfl) (fun Y hl hN0 o r hIni => ?_)
  subst hl
  have hN : ∀ i, i < 1 → i < yN Y := fun i h => by rw [hN0]; exact h
  refine j_ald_n o dJ21_length_0 rfl rfl (q := 1) rfl ?_
  refine j_callSup0 o (ctJ20_length hG _ (jmr hq)) dJ21_length_1 q899 q895 q740 q894 q101 q900 ⟨by decide, mdJ20_length.2.2⟩ (jb hq) (by rfl) rfl (Nat.le_of_ble_eq_true rfl) (Nat.le_of_ble_eq_true rfl) (by omega) (Nat.le_of_ble_eq_true rfl) (q := 4) rfl (fun v wd hpost => ?_)
  obtain ⟨rfl, rfl⟩ := hpost
  dsimp only [List.cons_append, List.nil_append, Option.toList]
  exact j_ret o r dJ21_length_4 rfl [] _ rfl (⟨rfl, rfl⟩) (by omega)
theorem ctJ20_newCapacity {l : Launch} {g : jG} (hG : GS l g) (bg : va_W) {q v n cap m : Nat} {ml : Int32} {f : Nat → Int32} (hq : (q, sbO v ml n) ∈ bg) (hv : (v, eA g 2 cap f) ∈ bg) (h1 : cap < m) (h2 : m ≤ 2 * cap + 2) (h0 : 0 < cap) (h9 : cap < 2 ^ 10) : KJ20_newCapacity l g 3 0 [.ref q, .int (nI m)] bg [] (fun y wd => y = some (.int (nI (2 * cap + 2))) ∧ wd = []) := by
  refine Ctr.of [some (.ref q), some (.int (nI m)), none, none, none, none] hG (by decide +kernel) rfl (Nat.le_of_ble_eq_true rfl) (fun Y hl hN0 o r hIni => ?_)
  subst hl
  have hN : ∀ i, i < 6 → i < yN Y := fun i h => by rw [hN0]; exact h
  refine j_ald_n o dJ20_newCapacity_0 rfl rfl (q := 1) rfl ?_
  refine j_gf o dJ20_newCapacity_1 (jb hq) kcJ21 0 (Nat.le_of_ble_eq_true rfl) q728 rfl (q := 4) rfl ?_
  refine j_alen o dJ20_newCapacity_4 (n := cap) (jb hv) rfl rfl (q := 5) rfl ?_
  refine j_ist2 o dJ20_newCapacity_5 rfl (hN 2 (Nat.le_of_ble_eq_true rfl)) (q := 6) rfl ?_
  refine j_ild_n o dJ20_newCapacity_6 rfl (q := 7) rfl ?_
  refine j_ald_n o dJ20_newCapacity_7 rfl rfl (q := 8) rfl ?_
  refine j_gf o dJ20_newCapacity_8 (jb hq) kcJ21 1 (Nat.le_of_ble_eq_true rfl) q729 rfl (q := 11) rfl ?_
  refine j_ishl o dJ20_newCapacity_11 (q := 12) rfl ?_
  refine j_topi o (nI m) (sb_shl0 _) ?_
  refine j_ist3 o dJ20_newCapacity_12 rfl (hN 3 (Nat.le_of_ble_eq_true rfl)) (q := 13) rfl ?_
  refine j_ild_n o dJ20_newCapacity_13 rfl (q := 14) rfl ?_
  refine j_ild_n o dJ20_newCapacity_14 rfl (q := 15) rfl ?_
  refine j_isub o dJ20_newCapacity_15 (q := 16) rfl ?_
  refine j_topi o (nI (m - cap)) (pk_sub (by omega)) ?_
  refine j_ist4 o dJ20_newCapacity_16 rfl (hN 4 (Nat.le_of_ble_eq_true rfl)) (q := 18) rfl ?_
  refine j_ild_n o dJ20_newCapacity_18 rfl (q := 19) rfl ?_
  refine j_ild o dJ20_newCapacity_19 rfl (q := 21) rfl ?_
  refine j_ild_n o dJ20_newCapacity_21 rfl (q := 22) rfl ?_
  refine j_iconst o (nI 2) dJ20_newCapacity_22 (by decide) (q := 23) rfl ?_
  refine j_ald_n o dJ20_newCapacity_23 rfl rfl (q := 24) rfl ?_
  refine j_gf o dJ20_newCapacity_24 (jb hq) kcJ21 1 (Nat.le_of_ble_eq_true rfl) q729 rfl (q := 27) rfl ?_
  refine j_ishl o dJ20_newCapacity_27 (q := 28) rfl ?_
  refine j_topi o (nI 2) (sb_shl0 _) ?_
  refine j_iadd o dJ20_newCapacity_28 (q := 29) rfl ?_
  refine j_topi o (nI (cap + 2)) (nI_add _ _) ?_
  refine j_callS0 o (ctJ3_newLength hG _ h0 (by omega)) dJ20_newCapacity_29 q763 wdJ3_newLength mdJ3_newLength rfl (Nat.le_of_ble_eq_true rfl) (Nat.le_of_ble_eq_true rfl) (by omega) (Nat.le_of_ble_eq_true rfl) (q := 32) rfl (fun v wd hpost => ?_)
  obtain ⟨rfl, rfl⟩ := hpost
  dsimp only [List.cons_append, List.nil_append, Option.toList]
  rw [show cap + max (m - cap) (cap + 2) = 2 * cap + 2 by omega]
  refine j_ist5 o dJ20_newCapacity_32 rfl (hN 5 (Nat.le_of_ble_eq_true rfl)) (q := 34) rfl ?_
  refine j_ild o dJ20_newCapacity_34 rfl (q := 36) rfl ?_
  refine j_ldc o dJ20_newCapacity_36 q764 (q := 38) rfl ?_
  refine j_icneT o 51 dJ20_newCapacity_38 (by decide) (fun h => by have := (nI_eq (a := 2 * cap + 2) (b := 2147483647) (by omega) (by omega)).mp h; omega) ?_
  refine j_ild o dJ20_newCapacity_51 rfl (q := 53) rfl ?_
  refine j_ald_n o dJ20_newCapacity_53 rfl rfl (q := 54) rfl ?_
  refine j_gf o dJ20_newCapacity_54 (jb hq) kcJ21 1 (Nat.le_of_ble_eq_true rfl) q729 rfl (q := 57) rfl ?_
  refine j_ishr o dJ20_newCapacity_57 (q := 58) rfl ?_
  refine j_topi o (nI (2 * cap + 2)) (sb_shr0 _) ?_
  exact j_ret o r dJ20_newCapacity_58 rfl [] _ rfl (⟨rfl, rfl⟩) (by omega)
theorem ctJ5_copyOf_3 {l : Launch} {g : jG} (hG : GS l g) (bg : va_W) {v cap m : Nat} {f : Nat → Int32} (hv : (v, eA g 2 cap f) ∈ bg) (hf : fitB cap f) (h1 : cap < m) (h9 : m < 2 ^ 12) : KJ5_copyOf_3 l g 2 (m / 12 + 1) [.ref v, .int (nI m)] bg [] (fun y wd => ∃ a f2, y = some (.ref a) ∧ wd = [[(a, eA g 2 m f2)]] ∧ (∀ i, i < cap → f2 i = f i) ∧ fitB m f2) := by
  refine Ctr.of [some (.ref v), some (.int (nI m)), none] hG (by decide +kernel) rfl (Nat.le_of_ble_eq_true rfl) (fun Y hl hN0 o r hIni => ?_)
  subst hl
  have hN : ∀ i, i < 3 → i < yN Y := fun i h => by rw [hN0]; exact h
  refine j_ild_n o dJ5_copyOf_3_0 rfl (q := 1) rfl ?_
  refine j_ald_n o dJ5_copyOf_3_1 rfl rfl (q := 2) rfl ?_
  refine j_alen o dJ5_copyOf_3_2 (n := cap) (jb hv) rfl rfl (q := 3) rfl ?_
  refine j_icneT o 14 dJ5_copyOf_3_3 (by decide) (fun h => by have := (nI_eq (by omega) (by omega)).mp h; omega) ?_
  refine j_ild_n o dJ5_copyOf_3_14 rfl (q := 15) rfl ?_
  refine j_newB o (m/12+1) dJ5_copyOf_3_15 (by first | decide | omega) (by omega) (by first | decide | omega) (q := 17) rfl (fun a hb_a => ?_)
  refine j_ast2 o dJ5_copyOf_3_17 rfl rfl (hN 2 (Nat.le_of_ble_eq_true rfl)) (q := 18) rfl ?_
  refine j_ald_n o dJ5_copyOf_3_18 rfl rfl (q := 19) rfl ?_
  refine j_iconst o (nI 0) dJ5_copyOf_3_19 (by decide) (q := 20) rfl ?_
  refine j_ald_n o dJ5_copyOf_3_20 rfl rfl (q := 21) rfl ?_
  refine j_iconst o (nI 0) dJ5_copyOf_3_21 (by decide) (q := 22) rfl ?_
  refine j_ald_n o dJ5_copyOf_3_22 rfl rfl (q := 23) rfl ?_
  refine j_alen o dJ5_copyOf_3_23 (n := cap) (jb hv) rfl rfl (q := 24) rfl ?_
  refine j_ild_n o dJ5_copyOf_3_24 rfl (q := 25) rfl ?_
  refine j_mmin o dJ5_copyOf_3_25 q281 (by omega) (by omega) (Nat.le_of_ble_eq_true rfl) (by omega) (Nat.le_of_ble_eq_true rfl) (q := 28) rfl ?_
  rw [show min cap m = cap by omega]
  refine j_copyA o (by omega) 2 rfl rfl dJ5_copyOf_3_28 q284 0 0 rfl rfl (jb hv) (fun i hi => by rw [Nat.zero_add]; exact hf i hi) (by omega) (by omega) (by omega) (by omega) (by decide) (q := 31) rfl ?_
  dsimp only [List.set]
  refine j_ald_n o dJ5_copyOf_3_31 rfl rfl (q := 32) rfl ?_
  have e1 : ∀ i, i < cap → va_cpy f (fun _ => 0) 0 0 cap i = f i := fun i hi => by
    unfold va_cpy
    rw [if_pos (by omega), Nat.zero_add, Nat.sub_zero]
  have e3 : fitB m (va_cpy f (fun _ => 0) 0 0 cap) := fun i hi => by
    by_cases h : i < cap
    · rw [e1 i h]; exact hf i h
    · unfold va_cpy
      rw [if_neg (by omega)]
      show Jvm.fits .byte (.int 0) = true
      rfl
  exact j_aret o r dJ5_copyOf_3_32 (by first | exact Or.inl ⟨_, rfl⟩ | exact Or.inr ⟨_, rfl⟩) rfl [_] _ rfl (⟨a, _, rfl, rfl, e1, e3⟩) (by omega)
theorem ctJ20_ensure {l : Launch} {g : jG} (hG : GS l g) (bg : va_W) {q v n n0 m : Nat} {ml : Int32} {f : Nat → Int32} (hf : fitB (cpc n) f) (h1 : n ≤ m) (h2 : m ≤ n + 4) (h9 : m ≤ 574) : KJ20_ensureCapacityInternal l g 4 (uCc m - uCc n) [.ref q, .int (nI m)] bg [[(q, sbO v ml n0)], [(v, eA g 2 (cpc n) f)]] (fun y wd => y = none ∧ ∃ v2 f2, wd = [[(q, sbO v2 ml n0)], [(v2, eA g 2 (cpc m) f2)]] ∧ (∀ i, i < n → f2 i = f i) ∧ fitB (cpc m) f2) := by
  obtain ⟨u1, u2⟩ := cpc_up h1 h2 h9
  obtain ⟨c1, c2, c3⟩ := cpc_le (n := n) (by omega)
  refine Ctr.of [some (.ref q), some (.int (nI m)), none] hG (by decide +kernel) rfl (Nat.le_of_ble_eq_true rfl) (fun Y hl hN0 o r hIni => ?_)
  subst hl
  have hN : ∀ i, i < 3 → i < yN Y := fun i h => by rw [hN0]; exact h
  refine j_ald_n o dJ20_ensureCapacityInternal_0 rfl rfl (q := 1) rfl ?_
  refine j_gf o dJ20_ensureCapacityInternal_1 (jw 0 0 rfl rfl) kcJ21 0 (Nat.le_of_ble_eq_true rfl) q728 rfl (q := 4) rfl ?_
  refine j_alen o dJ20_ensureCapacityInternal_4 (n := cpc n) (jw 1 0 rfl rfl) rfl rfl (q := 5) rfl ?_
  refine j_ald_n o dJ20_ensureCapacityInternal_5 rfl rfl (q := 6) rfl ?_
  refine j_gf o dJ20_ensureCapacityInternal_6 (jw 0 0 rfl rfl) kcJ21 1 (Nat.le_of_ble_eq_true rfl) q729 rfl (q := 9) rfl ?_
  refine j_ishr o dJ20_ensureCapacityInternal_9 (q := 10) rfl ?_
  refine j_topi o (nI (cpc n)) (sb_shr0 _) ?_
  refine j_ist2 o dJ20_ensureCapacityInternal_10 rfl (hN 2 (Nat.le_of_ble_eq_true rfl)) (q := 11) rfl ?_
  refine j_ild_n o dJ20_ensureCapacityInternal_11 rfl (q := 12) rfl ?_
  refine j_ild_n o dJ20_ensureCapacityInternal_12 rfl (q := 13) rfl ?_
  refine j_isub o dJ20_ensureCapacityInternal_13 (q := 14) rfl ?_
  by_cases hle : m ≤ cpc n
  · obtain ⟨e1, e2⟩ := u1 hle
    refine j_ifleT o 38 dJ20_ensureCapacityInternal_14 (by decide) ((sub_le0 (by omega) (by omega)).mpr hle) ?_
    exact j_vret o r dJ20_ensureCapacityInternal_38 [_, _] _ rfl (⟨rfl, v, f, by rw [e1], fun _ _ => rfl, by rw [e1]; exact hf⟩) (by omega)
  · obtain ⟨e1, e2⟩ := u2 (by omega)
    refine j_ifleF o (t := 38) dJ20_ensureCapacityInternal_14 (by decide) (q := 17) rfl (fun h => hle ((sub_le0 (by omega) (by omega)).mp h)) ?_
    refine j_ald_n o dJ20_ensureCapacityInternal_17 rfl rfl (q := 18) rfl ?_
    refine j_ald_n o dJ20_ensureCapacityInternal_18 rfl rfl (q := 19) rfl ?_
    refine j_gf o dJ20_ensureCapacityInternal_19 (jw 0 0 rfl rfl) kcJ21 0 (Nat.le_of_ble_eq_true rfl) q728 rfl (q := 22) rfl ?_
    refine j_ald_n o dJ20_ensureCapacityInternal_22 rfl rfl (q := 23) rfl ?_
    refine j_ild_n o dJ20_ensureCapacityInternal_23 rfl (q := 24) rfl ?_
    refine j_callC0 o (C := "java/lang/StringBuilder") (ctJ20_newCapacity hG _ (jwl 0 rfl (List.mem_singleton.mpr rfl)) (jwl 1 rfl (List.mem_singleton.mpr rfl)) (by omega) (by omega) (by omega) (by omega)) dJ20_ensureCapacityInternal_24 q759 q761 (o.selp ⟨by decide, by decide⟩ q778 rfl q760 q761) q101 q762 mdJ20_newCapacity (jRC.m o (jw 0 0 rfl rfl) (ci := 19) rfl) rfl (Nat.le_of_ble_eq_true rfl) (Nat.le_of_ble_eq_true rfl) (by omega) (Nat.le_of_ble_eq_true rfl) (q := 27) rfl (fun v wd hpost => ?_)
    obtain ⟨rfl, rfl⟩ := hpost
    dsimp only [List.cons_append, List.nil_append, Option.toList]
    refine j_ald_n o dJ20_ensureCapacityInternal_27 rfl rfl (q := 28) rfl ?_
    refine j_gf o dJ20_ensureCapacityInternal_28 (jw 0 0 rfl rfl) kcJ21 1 (Nat.le_of_ble_eq_true rfl) q729 rfl (q := 31) rfl ?_
    refine j_ishl o dJ20_ensureCapacityInternal_31 (q := 32) rfl ?_
    refine j_topi o (nI (2 * cpc n + 2)) (sb_shl0 _) ?_
    refine j_callS0 o (ctJ5_copyOf_3 hG _ (jwl 1 rfl (List.mem_singleton.mpr rfl)) hf (by omega) (by omega)) dJ20_ensureCapacityInternal_32 q765 wdJ5_copyOf_3 mdJ5_copyOf_3 rfl (Nat.le_of_ble_eq_true rfl) (Nat.le_of_ble_eq_true rfl) (by omega) (Nat.le_of_ble_eq_true rfl) (q := 35) rfl (fun v wd hpost => ?_)
    obtain ⟨a, f2, rfl, rfl, g1, g2⟩ := hpost
    dsimp only [List.cons_append, List.nil_append, Option.toList]
    refine j_pf o dJ20_ensureCapacityInternal_35 1 0 rfl rfl kcJ21 0 (Nat.le_of_ble_eq_true rfl) q728 rfl rfl rfl (Nat.le_of_ble_eq_true rfl) (q := 38) rfl ?_
    dsimp only [List.set]
    refine j_mv1 ?_
    exact j_vret o r dJ20_ensureCapacityInternal_38 [_, _] _ rfl (⟨rfl, a, f2, by rw [e1], fun i hi => g1 i (by omega), by rw [e1]; exact g2⟩) (by omega)
