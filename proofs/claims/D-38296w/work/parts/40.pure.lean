/-! PURE: numbers, hashes, places in the file (no machine in sight) -/
set_option maxRecDepth 100000
theorem nI_or (a b : Nat) : nI a ||| nI b = nI (a ||| b) := by
  apply Int32.toBitVec_inj.mp
  show BitVec.ofNat 32 a ||| BitVec.ofNat 32 b = BitVec.ofNat 32 (a ||| b)
  rw [BitVec.ofNat_or]
theorem nI_and (a b : Nat) : nI a &&& nI b = nI (a &&& b) := by
  apply Int32.toBitVec_inj.mp
  show BitVec.ofNat 32 a &&& BitVec.ofNat 32 b = BitVec.ofNat 32 (a &&& b)
  rw [BitVec.ofNat_and]
theorem nI_xor (a b : Nat) : nI a ^^^ nI b = nI (a ^^^ b) := by
  apply Int32.toBitVec_inj.mp
  show BitVec.ofNat 32 a ^^^ BitVec.ofNat 32 b = BitVec.ofNat 32 (a ^^^ b)
  rw [BitVec.ofNat_xor]
theorem sh31 : ∀ k, k < 32 → ((nI k &&& 31).toBitVec.smod 32).toNat = k := by decide
theorem nI_shl {n k : Nat} (hk : k < 32) (h : n * 2 ^ k < 2 ^ 32) : nI n <<< (nI k &&& 31) = nI (n * 2 ^ k) := pk_shlN _ k (sh31 k hk) h
theorem nI_shr {n k : Nat} (hk : k < 32) (h : n < 2 ^ 31) : nI n >>> (nI k &&& 31) = nI (n / 2 ^ k) := pk_shrN h _ k (sh31 k hk)
theorem nI_and1 (n : Nat) : nI n &&& nI 1 = nI (n % 2) := by
  rw [nI_and, Nat.and_one_is_mod]
theorem nI_rem {a d : Nat} (ha : a < 2 ^ 31) (h0 : 0 < d) (hd : d < 2 ^ 31) : nI a - nI a / nI d * nI d = nI (a % d) := pk_rem ha h0 hd
theorem nI_n0 {d : Nat} (h0 : 0 < d) (hd : d < 2 ^ 31) : ¬ nI d = 0 := nI_ne0 h0 hd
/-- key and value -/
abbrev Row : Type := Nat × Nat
/-- records by the chain, pages, filter -/
abbrev Bkt : Type := List Row × List Nat × Nat
/-- (cap, lower, upper), (choice, seed), (splits, merges), buckets -/
abbrev Fl : Type := (Nat × Nat × Nat) × (Nat × Nat) × (Nat × Nat) × List Bkt
abbrev fC (F : Fl) : Nat := F.1.1
abbrev fLo (F : Fl) : Nat := F.1.2.1
abbrev fUp (F : Fl) : Nat := F.1.2.2
abbrev fCh (F : Fl) : Nat := F.2.1.1
abbrev fSd (F : Fl) : Nat := F.2.1.2
abbrev fSp (F : Fl) : Nat := F.2.2.1.1
abbrev fMg (F : Fl) : Nat := F.2.2.1.2
abbrev fB (F : Fl) : List Bkt := F.2.2.2
def hst (ch k : Nat) (s : Nat × Nat × Nat) : Nat × Nat × Nat := if ch / 2 ^ k % 2 = 1 then (s.1 / 2, s.2.1, s.2.2 ||| s.1 % 2 * 2 ^ k) else (s.1, s.2.1 / 2, s.2.2 ||| s.2.1 % 2 * 2 ^ k)
def hsi (ch : Nat) (s : Nat × Nat × Nat) : Nat → Nat × Nat × Nat
  | 0 => s
  | k + 1 => hst ch k (hsi ch s k)
/-- HASH -/
def hsh (ch sd key : Nat) : Nat := (hsi ch (key / 100, key % 100, 0) 10).2.2 ^^^ (397 * sd % 1024)
theorem hsi_le (ch : Nat) (s : Nat × Nat × Nat) : ∀ k, (hsi ch s k).1 ≤ s.1 ∧ (hsi ch s k).2.1 ≤ s.2.1
  | 0 => ⟨Nat.le_refl _, Nat.le_refl _⟩
  | k + 1 => by
    have h := hsi_le ch s k
    unfold hsi hst
    split
    · exact ⟨Nat.le_trans (Nat.div_le_self _ _) h.1, h.2⟩
    · exact ⟨h.1, Nat.le_trans (Nat.div_le_self _ _) h.2⟩
theorem hsi_lt (ch a b : Nat) : ∀ k, (hsi ch (a, b, 0) k).2.2 < 2 ^ k
  | 0 => by show 0 < 1; omega
  | k + 1 => by
    have h := hsi_lt ch a b k
    have hp : 2 ^ k < 2 ^ (k + 1) := by rw [Nat.pow_succ]; have := Nat.two_pow_pos k; omega
    have hb : ∀ x : Nat, x % 2 * 2 ^ k < 2 ^ (k + 1) := by
      intro x
      have : x % 2 = 0 ∨ x % 2 = 1 := by omega
      rcases this with h | h
      · rw [h, Nat.zero_mul]; exact Nat.two_pow_pos _
      · rw [h, Nat.one_mul]; exact hp
    unfold hsi hst
    split
    · exact Nat.or_lt_two_pow (Nat.lt_trans h hp) (hb _)
    · exact Nat.or_lt_two_pow (Nat.lt_trans h hp) (hb _)
theorem hsh_lt (ch sd key : Nat) : hsh ch sd key < 1024 := by
  unfold hsh
  exact Nat.xor_lt_two_pow (n := 10) (hsi_lt ch _ _ 10) (Nat.mod_lt _ (by omega))
/-- TURNED HASH -/
def trn (h : Nat) : Nat → Nat
  | 0 => 0
  | k + 1 => 2 * trn h k + h / 2 ^ k % 2
theorem trn_lt (h : Nat) : ∀ k, trn h k < 2 ^ k
  | 0 => by show 0 < 1; omega
  | k + 1 => by
    have := trn_lt h k
    rw [trn, Nat.pow_succ]
    omega
/-- both marks of a hash -/
def mrk (h : Nat) : Nat := 2 ^ (h % 16) ||| 2 ^ (h / 16 % 16)
theorem mrk_lt (h : Nat) : mrk h < 2 ^ 16 := Nat.or_lt_two_pow (Nat.pow_lt_pow_right (by omega) (Nat.mod_lt _ (by omega))) (Nat.pow_lt_pow_right (by omega) (Nat.mod_lt _ (by omega)))
/-- the power of two that is at most n -/
def bse (n : Nat) : Nat := 2 ^ Nat.log2 n
/-- LEVEL, POINTER, ADDRESS, DEPTH of so many buckets -/
def lvl (n : Nat) : Nat := Nat.log2 n - 1
def ptr (n : Nat) : Nat := n - bse n
def adr (n h : Nat) : Nat := if h % bse n < ptr n then h % (2 * bse n) else h % bse n
def dpt (n b : Nat) : Nat := lvl n + (if b < ptr n ∨ bse n ≤ b then 1 else 0)
theorem bse_le {n : Nat} (h : n ≠ 0) : bse n ≤ n := Nat.log2_self_le h
theorem lt_bse {n : Nat} : n < 2 * bse n := by
  have h := Nat.lt_log2_self (n := n)
  rw [Nat.pow_succ] at h
  unfold bse
  omega
theorem bse_pos (n : Nat) : 0 < bse n := Nat.two_pow_pos _
theorem log2_ge {n : Nat} (h : 2 ≤ n) : 1 ≤ Nat.log2 n := (Nat.le_log2 (by omega)).mpr (by simpa using h)
theorem bse_lvl {n : Nat} (h : 2 ≤ n) : 2 * 2 ^ lvl n = bse n := by
  unfold lvl bse
  have h1 := log2_ge h
  rw [← Nat.pow_succ', show (Nat.log2 n - 1).succ = Nat.log2 n by omega]
theorem ptr_lt {n : Nat} (h : n ≠ 0) : ptr n < bse n := by
  have := lt_bse (n := n)
  have := bse_le h
  unfold ptr
  omega
theorem bse_ptr {n : Nat} (h : n ≠ 0) : bse n + ptr n = n := by
  have := bse_le h
  unfold ptr
  omega
theorem adr_lt {n h : Nat} (hn : n ≠ 0) : adr n h < n := by
  have h1 := bse_ptr hn
  have h2 := bse_pos n
  unfold adr
  split
  · rename_i h3
    have h4 : h % (2 * bse n) % bse n = h % bse n := Nat.mod_mod_of_dvd _ ⟨2, by omega⟩
    have h5 : h % (2 * bse n) < 2 * bse n := Nat.mod_lt _ (by omega)
    rcases Nat.lt_or_ge (h % (2 * bse n)) (bse n) with h6 | h6
    · omega
    · rw [Nat.mod_eq_sub_mod h6, Nat.mod_eq_of_lt (by omega)] at h4
      omega
  · have := Nat.mod_lt h h2
    omega
theorem log2_le {n k : Nat} (h : n < 2 ^ (k + 1)) : Nat.log2 n ≤ k := by
  rcases Nat.eq_zero_or_pos n with h0 | h0
  · subst h0; simp
  · have := (Nat.log2_lt (by omega)).mpr h
    omega
theorem bse_le64 {n : Nat} (h : n < 128) : bse n ≤ 64 := by
  have h1 := log2_le (n := n) (k := 6) h
  unfold bse
  calc 2 ^ Nat.log2 n ≤ 2 ^ 6 := Nat.pow_le_pow_right (by omega) h1
    _ = 64 := by decide
