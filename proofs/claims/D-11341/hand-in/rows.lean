section
/-- bit 33 of a long: the one row that the law puts -/
def sx_t (x : Int64) : Bool := x.toBitVec.getLsbD 33
/-- digit j of n -/
def sx_b (n j : Nat) : Bool := decide (n / 2 ^ j % 2 = 1)
/-- a set of rows: row 33 or none -/
def sx_m (c : Bool) : Int64 := if c then 8589934592 else 0
/-- n or nothing -/
def sx_v (c : Bool) (n : Nat) : Int32 := if c then nI n else nI 0
/-- the six comparisons -/
def sx_cmp (x h y : Int32) : Bool := if h = 0 then decide (x = y) else if h = 1 then decide (x < y) else if h = 2 then (decide (x < y) || decide (x = y)) else if h = 3 then !decide (x = y) else if h = 4 then !decide (x < y) else !(decide (x < y) || decide (x = y))
theorem sx_and (x y : Int64) : sx_t (x &&& y) = (sx_t x && sx_t y) := by
  unfold sx_t
  rw [Int64.toBitVec_and, BitVec.getLsbD_and]
theorem sx_or (x y : Int64) : sx_t (x ||| y) = (sx_t x || sx_t y) := by
  unfold sx_t
  rw [Int64.toBitVec_or, BitVec.getLsbD_or]
theorem sx_xor (x y : Int64) : sx_t (x ^^^ y) = (sx_t x ^^ sx_t y) := by
  unfold sx_t
  rw [Int64.toBitVec_xor, BitVec.getLsbD_xor]
theorem sx_m1 : sx_t (-1) = true := by decide
theorem sx_0 : sx_t 0 = false := by decide
theorem sx_not (x : Int64) : sx_t (x ^^^ (-1)) = !sx_t x := by
  rw [sx_xor, sx_m1, Bool.xor_true]
theorem sx_tp : (8589934592 : Int64).toBitVec = BitVec.twoPow 64 33 := by decide
theorem sx_cut (x : Int64) : x &&& 8589934592 = sx_m (sx_t x) := by
  apply Int64.toBitVec_inj.mp
  apply BitVec.eq_of_getLsbD_eq
  intro i hi
  rw [Int64.toBitVec_and, BitVec.getLsbD_and, sx_tp, BitVec.getLsbD_twoPow]
  unfold sx_m
  by_cases e : 33 = i
  · cases h : sx_t x
    · have h' : x.toBitVec.getLsbD i = false := by rw [← e]; exact h
      rw [h', Bool.false_and]
      exact (BitVec.getLsbD_zero (w := 64)).symm
    · have h' : x.toBitVec.getLsbD i = true := by rw [← e]; exact h
      rw [h', Bool.true_and, if_pos rfl, sx_tp, BitVec.getLsbD_twoPow]
  · rw [decide_eq_false e, Bool.and_false, Bool.and_false]
    cases h : sx_t x
    · exact (BitVec.getLsbD_zero (w := 64)).symm
    · rw [if_pos rfl, sx_tp, BitVec.getLsbD_twoPow, decide_eq_false e, Bool.and_false]
theorem sx_mand (c : Bool) (x : Int64) : sx_m c &&& x = sx_m (c && sx_t x) := by
  cases c
  · show (0 : Int64) &&& x = 0
    exact Int64.zero_and
  · show (8589934592 : Int64) &&& x = sx_m (true && sx_t x)
    rw [Bool.true_and, ← sx_cut, Int64.and_comm]
theorem sx_su : ∀ n, n < 32 → (((nI n).toUInt32 &&& Int32.toUInt32 31).toBitVec % 32).toNat = n := by decide +kernel
/-- what setColumn stores: the digit, at row 33 -/
theorem sx_put1 (w : Int64) (v : Int32) (j : Nat) (hj : j < 8) : sx_t ((w &&& (((1 : Int64) <<< ((33 : Int32).toInt64 &&& 63)) ^^^ (-1))) ||| (((((v.toUInt32 >>> ((nI j).toUInt32 &&& Int32.toUInt32 31)).toInt32) &&& 1).toInt64) <<< ((33 : Int32).toInt64 &&& 63))) = sx_b v.toBitVec.toNat j := by
  rw [pk_and (m := 1) _ 1 (by decide), pk_ushr v (nI j) j (sx_su j (by omega)), sx_or, sx_and, sx_not]
  have e1 : sx_t ((1 : Int64) <<< ((33 : Int32).toInt64 &&& 63)) = true := by decide
  rw [e1, Bool.not_true, Bool.and_false, Bool.false_or]
  unfold sx_b
  have h : v.toBitVec.toNat / 2 ^ j % 2 ^ 1 = 0 ∨ v.toBitVec.toNat / 2 ^ j % 2 ^ 1 = 1 := by omega
  rcases h with h | h
  · rw [h]
    decide
  · rw [h]
    decide
theorem sx_lt8 {j : Nat} (h : j < 8) : j = 0 ∨ j = 1 ∨ j = 2 ∨ j = 3 ∨ j = 4 ∨ j = 5 ∨ j = 6 ∨ j = 7 := by omega
theorem sx_b_mod (n : Nat) {j : Nat} (hj : j < 8) : sx_b n j = sx_b (n % 256) j := by
  unfold sx_b
  have e : n / 2 ^ j % 2 = n % 256 / 2 ^ j % 2 := by
    rcases sx_lt8 hj with h | h | h | h | h | h | h | h <;> subst h <;> omega
  rw [e]
theorem sx_b8 {n : Nat} (h : n < 256) : sx_b n 8 = false := by
  unfold sx_b
  exact decide_eq_false (by omega)
theorem sx_half (n i : Nat) : n / 2 ^ (i + 1) = n / 2 ^ i / 2 := by
  rw [Nat.pow_succ, Nat.div_div_eq_div_mul]
/-- one digit further down: less -/
theorem sx_cl (p q : Nat) : (decide (p / 2 < q / 2) || ((decide (p / 2 = q / 2) && !decide (p % 2 = 1)) && decide (q % 2 = 1))) = decide (p < q) := by
  rw [Bool.eq_iff_iff]
  simp only [Bool.or_eq_true, Bool.and_eq_true, Bool.not_eq_true', decide_eq_true_eq, decide_eq_false_iff_not]
  omega
theorem sx_xe (a b : Nat) (ha : a < 2) (hb : b < 2) : (!(decide (a = 1) ^^ decide (b = 1))) = decide (a = b) := by
  have h1 : a = 0 ∨ a = 1 := by omega
  have h2 : b = 0 ∨ b = 1 := by omega
  rcases h1 with h1 | h1 <;> rcases h2 with h2 | h2 <;> subst h1 <;> subst h2 <;> decide
/-- one digit further down: equal -/
theorem sx_ce (p q : Nat) : (decide (p / 2 = q / 2) && !(decide (p % 2 = 1) ^^ decide (q % 2 = 1))) = decide (p = q) := by
  rw [sx_xe _ _ (by omega) (by omega), Bool.eq_iff_iff]
  simp only [Bool.and_eq_true, decide_eq_true_eq]
  omega
theorem sx_x3 (a b c s : Nat) (ha : a < 2) (hb : b < 2) (hc : c < 2) (h : s = (a + b + c) % 2) : ((decide (a = 1) ^^ decide (b = 1)) ^^ decide (c = 1)) = decide (s = 1) := by
  have h1 : a = 0 ∨ a = 1 := by omega
  have h2 : b = 0 ∨ b = 1 := by omega
  have h3 : c = 0 ∨ c = 1 := by omega
  subst h
  rcases h1 with h1 | h1 <;> rcases h2 with h2 | h2 <;> rcases h3 with h3 | h3 <;> subst h1 <;> subst h2 <;> subst h3 <;> decide
theorem sx_mj (a b c s : Nat) (ha : a < 2) (hb : b < 2) (hc : c < 2) (h : s = (a + b + c) / 2) : ((decide (a = 1) && decide (b = 1)) || ((decide (a = 1) ^^ decide (b = 1)) && decide (c = 1))) = decide (s = 1) := by
  have h1 : a = 0 ∨ a = 1 := by omega
  have h2 : b = 0 ∨ b = 1 := by omega
  have h3 : c = 0 ∨ c = 1 := by omega
  subst h
  rcases h1 with h1 | h1 <;> rcases h2 with h2 | h2 <;> rcases h3 with h3 | h3 <;> subst h1 <;> subst h2 <;> subst h3 <;> decide
/-- the carry into digit i -/
def sx_c (A B i : Nat) : Bool := decide ((A % 2 ^ i + B % 2 ^ i) / 2 ^ i = 1)
theorem sx_c2 (A B : Nat) {i : Nat} (hi : i < 8) : (A % 2 ^ i + B % 2 ^ i) / 2 ^ i < 2 := by
  rcases sx_lt8 hi with h | h | h | h | h | h | h | h <;> subst h <;> omega
theorem sx_dg (A B : Nat) {i : Nat} (hi : i < 8) : ((sx_b A i ^^ sx_b B i) ^^ sx_c A B i) = sx_b (A + B) i := by
  unfold sx_b sx_c
  refine sx_x3 _ _ _ _ (by omega) (by omega) (sx_c2 A B hi) ?_
  rcases sx_lt8 hi with h | h | h | h | h | h | h | h <;> subst h <;> omega
theorem sx_cy (A B : Nat) {i : Nat} (hi : i < 8) : ((sx_b A i && sx_b B i) || ((sx_b A i ^^ sx_b B i) && sx_c A B i)) = sx_c A B (i + 1) := by
  unfold sx_b sx_c
  refine sx_mj _ _ _ _ (by omega) (by omega) (sx_c2 A B hi) ?_
  rcases sx_lt8 hi with h | h | h | h | h | h | h | h <;> subst h <;> omega
theorem sx_c0 (A B : Nat) : sx_c A B 0 = false := by
  unfold sx_c
  exact decide_eq_false (by omega)
theorem sx_c8 {A B : Nat} (hA : A < 256) (hB : B < 256) : sx_c A B 8 = sx_b (A + B) 8 := by
  unfold sx_c sx_b
  have e : (A % 2 ^ 8 + B % 2 ^ 8) / 2 ^ 8 = (A + B) / 2 ^ 8 % 2 := by omega
  rw [e]
theorem sx_7 : ∀ i, i < 8 → 2 * nI (7 / 2 ^ (i + 1)) + sx_v (sx_b 7 i) 1 = nI (7 / 2 ^ i) := by decide +kernel
theorem sx_o1 {x y : Int32} (e : y ≤ x) : decide (x < y) = false :=
  decide_eq_false (Int32.not_lt.mpr e)
theorem sx_o2 {x y : Int32} (e : ¬ y ≤ x) : decide (x < y) = true :=
  decide_eq_true (Int32.not_le.mp e)
theorem sx_o3 {x y : Int32} (e : x ≤ y) : (decide (x < y) || decide (x = y)) = true := by
  have h := Int32.le_iff_toInt_le.mp e
  rcases Int.lt_or_eq_of_le h with z | z
  · rw [decide_eq_true (Int32.lt_iff_toInt_lt.mpr z), Bool.true_or]
  · rw [decide_eq_true (Int32.toInt_inj.mp z), Bool.or_true]
theorem sx_o4 {x y : Int32} (e : ¬ x ≤ y) : (decide (x < y) || decide (x = y)) = false := by
  have h : ¬ x.toInt ≤ y.toInt := fun z => e (Int32.le_iff_toInt_le.mpr z)
  have h1 : ¬ x < y := fun z => h (by have := Int32.lt_iff_toInt_lt.mp z; omega)
  have h2 : ¬ x = y := fun z => h (by rw [z]; exact Int.le_refl _)
  rw [decide_eq_false h1, decide_eq_false h2, Bool.or_false]
theorem sx_kb {K i : Nat} (hK : K < 2 ^ 31) (hi : i < 32) : (((nI K).toUInt32 >>> ((nI i).toUInt32 &&& Int32.toUInt32 31)).toInt32 &&& 1) = 0 ↔ K / 2 ^ i % 2 = 0 := by
  have h : K / 2 ^ i ≤ K := Nat.div_le_self _ _
  rw [pk_ushrN (by omega) (nI i) i (sx_su i hi), pk_andN (m := 1) (by omega) 1 (by decide), ← nI_0]
  exact nI_eq (by omega) (by omega)
theorem sx_ix (c i : Nat) : 8 * nI c + nI i = nI (8 * c + i) := by
  rw [show (8 : Int32) = nI 8 from rfl, pk_mul, nI_add]
theorem sx_at {c i : Nat} (h : 8 * c + i < 24) : (8 * nI c + nI i).toNatClampNeg = 8 * c + i := by
  rw [sx_ix, nI_clamp (by omega)]
/-- a table of digits, one more place -/
theorem sx_fill {s : Nat → Int64} {N i k : Nat} {x : Int64} (hk : k = i) (h : ∀ j, j < i → sx_t (s j) = sx_b N j) (hx : sx_t x = sx_b N i) : ∀ j, j < i + 1 → sx_t (vp_updL s k x j) = sx_b N j := by
  intro j hj
  rw [hk]
  by_cases e : j = i
  · rw [e, pk_uLs, hx]
  · rw [pk_uLn e]
    exact h j (by omega)
end
section
section
variable {f1 : Int64} {f2 : Int32} {f3 f4 : Int64} {a1 : Nat → Int64} {a2 a3 a4 a5 a6 : Nat → Int32} {a7 : Nat → Int64} {a8 : Nat → Int32} {a9 a10 a11 : Nat → Int64}
/-- column c of a, up to digit i, holds v; the rest is a's -/
def sx_col (c : Nat) (v : Int32) (a : Nat → Int64) (i : Nat) (s : Nat → Int64) : Prop := (∀ j, j < i → sx_t (s (8 * c + j)) = sx_b v.toBitVec.toNat j) ∧ (∀ k, k < 8 * c ∨ 8 * c + 8 ≤ k → s k = a k)
theorem sx_col1 {c i k : Nat} {v : Int32} {a s : Nat → Int64} {x : Int64} (hk : k = 8 * c + i) (hi : i < 8) (h : sx_col c v a i s) (hx : sx_t x = sx_b v.toBitVec.toNat i) : sx_col c v a (i + 1) (vp_updL s k x) := by
  subst hk
  refine ⟨fun j hj => ?_, fun k hk => ?_⟩
  · by_cases e : j = i
    · rw [e, pk_uLs, hx]
    · rw [pk_uLn (by omega)]
      exact h.1 j (by omega)
  · rw [pk_uLn (by omega)]
    exact h.2 k hk
theorem sx_setColumn {post : St2 → Prop} {p1 v : Int32} (c : Nat) (hc : c < 3) (hp : p1 = nI c)
    (H : ∀ a, sx_col c v a1 8 a → post (f1, f2, f3, f4, a, a2, a3, a4, a5, a6, a7, a8, a9, a10, a11)) :
    wpX_setColumn post (f1, f2, f3, f4, a1, a2, a3, a4, a5, a6, a7, a8, a9, a10, a11) 33 p1 v := by
  subst hp
  exact pk_loop (fun n i s => wX_setColumn_3 post 33 (nI c) v f1 f2 f3 f4 n (nI i) s a2 a3 a4 a5 a6 a7 a8 a9 a10 a11) (fun i s => sx_col c v a1 i s) 8 0 a1 (by omega) ⟨fun j hj => absurd hj (by omega), fun _ _ => rfl⟩
    (fun n s h => pk_le 8 8 (fun _ => H s h) (fun z => absurd z (by omega)))
    (fun n i s hi h hw => pk_le 8 i (fun z => absurd z (by omega)) (fun _ => nm_r (sx_ix c i) ⟨pk_in (8 * c + i) 24 (by omega), pk_in (8 * c + i) 24 (by omega), nm_e (nm_r (nI_1 i) (hw _ (sx_col1 (nI_clamp (by omega)) hi h (sx_put1 _ v i hi))))⟩))
theorem sx_forget {post : St2 → Prop}
    (H : ∀ a : Nat → Int32, (∀ j, j < 16 → a j = 0) → post (f1, f2, f3, f4, a1, a2, a3, a4, a5, a6, a7, a, a9, a10, a11)) :
    wpX_forgetAnswers post (f1, f2, f3, f4, a1, a2, a3, a4, a5, a6, a7, a8, a9, a10, a11) :=
  pk_loop (fun n i s => wX_forgetAnswers_2 post f1 f2 f3 f4 n (nI i) a1 a2 a3 a4 a5 a6 a7 s a9 a10 a11) (fun i s => ∀ j, j < i → s j = 0) 16 0 a8 (by omega) (fun j hj => absurd hj (by omega))
    (fun n s h => pk_le 16 16 (fun _ => H s h) (fun z => absurd z (by omega)))
    (fun n i s hi h hw => pk_le 16 i (fun z => absurd z (by omega)) (fun _ => ⟨pk_in i 16 hi, nm_e (nm_r (nI_1 i) (hw _ (fun j hj => by
      rw [nI_clamp (by omega)]
      by_cases e : j = i
      · rw [e, pk_us]
      · rw [pk_un e]
        exact h j (by omega))))⟩))
theorem sx_put {post : Int32 → St2 → Prop} {p1 p2 p3 : Int32}
    (H : ∀ (s1 s2 s3 : Nat → Int64) (a : Nat → Int32), sx_col 0 p1 a1 8 s1 → sx_col 1 p2 s1 8 s2 → sx_col 2 p3 s2 8 s3 → (∀ j, j < 16 → a j = 0) → post 0 (8589934592, f2, f3, f4, s3, a2, a3, a4, a5, a6, a7, a, a9, a10, a11)) :
    wpX_put post (0, f2, f3, f4, a1, a2, a3, a4, a5, a6, a7, a8, a9, a10, a11) 33 p1 p2 p3 := by
  unfold wpX_put
  dsimp only
  refine br_f (by decide) (br_t (by decide) (nm_r (e' := 8589934592) (by decide) ?_))
  refine sx_setColumn 0 (by omega) rfl (fun s1 h1 => ?_)
  refine sx_setColumn 1 (by omega) rfl (fun s2 h2 => ?_)
  refine sx_setColumn 2 (by omega) rfl (fun s3 h3 => ?_)
  exact sx_forget (fun a h => H s1 s2 s3 a h1 h2 h3 h)
theorem sx_isCol {post : Int32 → Prop} {p : Int32} (c : Nat) (hc : c < 3) (hp : p = nI c) (H : post 1) : wpX_isColumn post () p := by
  subst hp
  exact pk_lt c 0 (fun z => absurd z (by omega)) (fun _ => pk_lt 2 c (fun z => absurd z (by omega)) (fun _ => H))
theorem sx_make {post : Int32 → St2 → Prop} {c0 p0 p1 p2 p3 p4 : Int32} (n : Nat) (hn : n < 16) (hc : c0 = nI n)
    (H : post (nI n) (f1, nI (n + 1), f3, f4, a1, upd a2 n p0, upd a3 n p1, upd a4 n p2, upd a5 n p3, upd a6 n p4, a7, upd a8 n 0, a9, a10, a11)) :
    wpX_make post (f1, c0, f3, f4, a1, a2, a3, a4, a5, a6, a7, a8, a9, a10, a11) p0 p1 p2 p3 p4 := by
  subst hc
  unfold wpX_make
  dsimp only
  rw [nI_clamp (show n < 2 ^ 31 by omega)]
  exact pk_lt n 16 (fun _ => ⟨pk_in n 16 hn, nm_e ⟨pk_in n 16 hn, nm_e ⟨pk_in n 16 hn, nm_e ⟨pk_in n 16 hn, nm_e ⟨pk_in n 16 hn, nm_e ⟨pk_in n 16 hn, nm_e (nm_r (nI_1 n) H)⟩⟩⟩⟩⟩⟩) (fun z => absurd z (by omega))
theorem sx_compare {post : Int32 → St2 → Prop} {c0 p0 p1 p2 : Int32} (n c t : Nat) (hn : n < 16) (hc : c < 3) (ht : t < 6) (h0 : c0 = nI n) (h1 : p0 = nI c) (h2 : p1 = nI t)
    (H : post (nI n) (f1, nI (n + 1), f3, f4, a1, upd a2 n 0, upd a3 n p0, upd a4 n 0, upd a5 n p1, upd a6 n p2, a7, upd a8 n 0, a9, a10, a11)) :
    wpX_compare post (f1, c0, f3, f4, a1, a2, a3, a4, a5, a6, a7, a8, a9, a10, a11) p0 p1 p2 := by
  unfold wpX_compare
  dsimp only
  refine sx_isCol c hc h1 (br_f (by decide) ?_)
  refine pk_lt t 0 (fun z => absurd z (by omega)) (fun _ => ?_) h2
  refine pk_le t 5 (fun _ => ?_) (fun z => absurd z (by omega)) h2
  exact sx_make n hn h0 H
theorem sx_columns {post : Int32 → St2 → Prop} {c0 p0 p1 p2 : Int32} (n c d t : Nat) (hn : n < 16) (hc : c < 3) (hd : d < 3) (ht : t < 6) (h0 : c0 = nI n) (h1 : p0 = nI c) (h2 : p1 = nI t) (h3 : p2 = nI d)
    (H : post (nI n) (f1, nI (n + 1), f3, f4, a1, upd a2 n 1, upd a3 n p0, upd a4 n p2, upd a5 n p1, upd a6 n 0, a7, upd a8 n 0, a9, a10, a11)) :
    wpX_columns post (f1, c0, f3, f4, a1, a2, a3, a4, a5, a6, a7, a8, a9, a10, a11) p0 p1 p2 := by
  unfold wpX_columns
  dsimp only
  refine sx_isCol c hc h1 (br_f (by decide) ?_)
  refine sx_isCol d hd h3 (br_f (by decide) ?_)
  refine pk_lt t 0 (fun z => absurd z (by omega)) (fun _ => ?_) h2
  refine pk_le t 5 (fun _ => ?_) (fun z => absurd z (by omega)) h2
  exact sx_make n hn h0 H
theorem sx_sums {post : Int32 → St2 → Prop} {c0 p0 p1 p2 p3 : Int32} (n c d t : Nat) (hn : n < 16) (hc : c < 3) (hd : d < 3) (ht : t < 6) (h0 : c0 = nI n) (h1 : p0 = nI c) (h2 : p2 = nI t) (h3 : p1 = nI d)
    (H : post (nI n) (f1, nI (n + 1), f3, f4, a1, upd a2 n 2, upd a3 n p0, upd a4 n p1, upd a5 n p2, upd a6 n p3, a7, upd a8 n 0, a9, a10, a11)) :
    wpX_sums post (f1, c0, f3, f4, a1, a2, a3, a4, a5, a6, a7, a8, a9, a10, a11) p0 p1 p2 p3 := by
  unfold wpX_sums
  dsimp only
  refine sx_isCol c hc h1 (br_f (by decide) ?_)
  refine sx_isCol d hd h3 (br_f (by decide) ?_)
  refine pk_lt t 0 (fun z => absurd z (by omega)) (fun _ => ?_) h2
  refine pk_le t 5 (fun _ => ?_) (fun z => absurd z (by omega)) h2
  exact sx_make n hn h0 H
end
end
section
section
variable {f1 : Int64} {f2 : Int32} {f3 f4 : Int64} {a1 : Nat → Int64} {a2 a3 a4 a5 a6 : Nat → Int32} {a7 : Nat → Int64} {a8 : Nat → Int32} {a9 a10 a11 : Nat → Int64}
/-- column c holds A at row 33 -/
def sx_cl8 (a : Nat → Int64) (c A : Nat) : Prop := ∀ j, j < 8 → sx_t (a (8 * c + j)) = sx_b A j
/-- the total holds A at row 33 -/
def sx_tot (a : Nat → Int64) (A : Nat) : Prop := ∀ j, j < 9 → sx_t (a j) = sx_b A j
theorem sx_take {post : St2 → Prop} {p : Int32} {A : Nat} (c : Nat) (hc : c < 3) (hp : p = nI c) (hA : A < 256) (hs : sx_cl8 a1 c A)
    (H : ∀ a, sx_tot a A → post (f1, f2, f3, f4, a1, a2, a3, a4, a5, a6, a7, a8, a, a10, a11)) :
    wpX_takeColumn post (f1, f2, f3, f4, a1, a2, a3, a4, a5, a6, a7, a8, a9, a10, a11) p := by
  subst hp
  exact pk_loop (fun n i s => wX_takeColumn_2 post (nI c) f1 f2 f3 f4 n (nI i) a1 a2 a3 a4 a5 a6 a7 a8 s a10 a11) (fun i s => ∀ j, j < i → sx_t (s j) = sx_b A j) 8 0 a9 (by omega) (fun j hj => absurd hj (by omega))
    (fun n s h => pk_le 8 8 (fun _ => nm_e (H _ (sx_fill rfl h (by rw [sx_b8 hA, sx_0])))) (fun z => absurd z (by omega)))
    (fun n i s hi h hw => pk_le 8 i (fun z => absurd z (by omega)) (fun _ => ⟨pk_in (8 * c + i) 24 (by omega) (sx_ix c i), pk_in i 9 (by omega), nm_e (nm_r (nI_1 i) (hw _ (sx_fill (nI_clamp (by omega)) h (by rw [sx_at (by omega)]; exact hs i hi))))⟩))
theorem sx_add {post : St2 → Prop} {p q : Int32} {A B : Nat} (c d : Nat) (hc : c < 3) (hd : d < 3) (hp : p = nI c) (hq : q = nI d) (hA : A < 256) (hB : B < 256) (ha : sx_cl8 a1 c A) (hb : sx_cl8 a1 d B)
    (H : ∀ a, sx_tot a (A + B) → post (f1, f2, f3, f4, a1, a2, a3, a4, a5, a6, a7, a8, a, a10, a11)) :
    wpX_addColumns post (f1, f2, f3, f4, a1, a2, a3, a4, a5, a6, a7, a8, a9, a10, a11) p q := by
  subst hp
  subst hq
  exact pk_loop (fun n i (s : Int64 × (Nat → Int64)) => wX_addColumns_5 post (nI c) (nI d) f1 f2 f3 f4 n s.1 (nI i) a1 a2 a3 a4 a5 a6 a7 a8 s.2 a10 a11) (fun i s => sx_t s.1 = sx_c A B i ∧ ∀ j, j < i → sx_t (s.2 j) = sx_b (A + B) j) 8 0 (0, a9) (by omega) ⟨by rw [sx_c0]; exact sx_0, fun j hj => absurd hj (by omega)⟩
    (fun n s h => pk_le 8 8 (fun _ => nm_e (H _ (sx_fill rfl h.2 (by rw [h.1, sx_c8 hA hB])))) (fun z => absurd z (by omega)))
    (fun n i s hi h hw => pk_le 8 i (fun z => absurd z (by omega)) (fun _ => by
      have ea : sx_t (a1 (8 * nI c + nI i).toNatClampNeg) = sx_b A i := by rw [sx_at (by omega)]; exact ha i hi
      have eb : sx_t (a1 (8 * nI d + nI i).toNatClampNeg) = sx_b B i := by rw [sx_at (by omega)]; exact hb i hi
      refine ⟨pk_in (8 * c + i) 24 (by omega) (sx_ix c i), nm_e ⟨pk_in (8 * d + i) 24 (by omega) (sx_ix d i), nm_e ⟨pk_in i 9 (by omega), nm_e (nm_e (nm_r (nI_1 i) (hw (_, _) ⟨?_, ?_⟩)))⟩⟩⟩
      · show sx_t _ = _
        rw [sx_or, sx_and, sx_and, sx_xor, ea, eb, h.1]
        exact sx_cy A B hi
      · refine sx_fill (nI_clamp (by omega)) h.2 ?_
        rw [sx_xor, sx_xor, ea, eb, h.1]
        exact sx_dg A B hi))
/-- less and equal after the digits from i on, x against y -/
def sx_le (A K i : Nat) (s : Int64 × Int64) : Prop := sx_t s.1 = decide (A / 2 ^ i < K / 2 ^ i) ∧ sx_t s.2 = decide (A / 2 ^ i = K / 2 ^ i)
theorem sx_le_1 {A K i : Nat} {s : Int64 × Int64} (h : sx_le A K (i + 1) s) {l e : Int64} {x y : Bool} (hx : x = sx_b A i) (hy : y = sx_b K i) (hl : sx_t l = (sx_t s.1 || ((sx_t s.2 && !x) && y))) (he : sx_t e = (sx_t s.2 && !(x ^^ y))) : sx_le A K i (l, e) := by
  obtain ⟨h1, h2⟩ := h
  rw [sx_half, sx_half] at h1 h2
  refine ⟨?_, ?_⟩
  · show sx_t l = _
    rw [hl, h1, h2, hx, hy]
    exact sx_cl _ _
  · show sx_t e = _
    rw [he, h2, hx, hy]
    exact sx_ce _ _
theorem sx_le_s {A K i : Nat} (hA : A / 2 ^ i = 0) (hK : K / 2 ^ i = 0) : sx_le A K i (0, -1) := by
  refine ⟨?_, ?_⟩
  · show sx_t 0 = _
    rw [hA, hK, sx_0]
    decide
  · show sx_t (-1) = _
    rw [hA, hK, sx_m1]
    decide
theorem sx_le_e {A K : Nat} {s : Int64 × Int64} (hA : A < 2 ^ 31) (hK : K < 2 ^ 31) (h : sx_le A K 0 s) : sx_t s.1 = decide (nI A < nI K) ∧ sx_t s.2 = decide (nI A = nI K) := by
  obtain ⟨h1, h2⟩ := h
  rw [Nat.pow_zero, Nat.div_one, Nat.div_one] at h1 h2
  refine ⟨h1.trans ?_, h2.trans ?_⟩
  · exact decide_eq_decide.mpr (nI_ltI hA hK).symm
  · exact decide_eq_decide.mpr (nI_eq hA hK).symm
theorem sx_cwc {post : St2 → Prop} {A : Nat} {p k : Int32} (hp : p = k) (hA : A < 512) (ht : sx_tot a9 A)
    (H : ∀ l e, sx_t l = decide (nI A < k) → sx_t e = decide (nI A = k) → post (f1, f2, l, e, a1, a2, a3, a4, a5, a6, a7, a8, a9, a10, a11)) :
    wpX_compareWithConstant post (f1, f2, f3, f4, a1, a2, a3, a4, a5, a6, a7, a8, a9, a10, a11) p := by
  subst hp
  unfold wpX_compareWithConstant
  dsimp only
  refine br_c (fun h0 => ?_) (fun h0 => ?_)
  · obtain ⟨K, hK, rfl⟩ := nI_of (x := p) (Int32.not_lt.mpr h0)
    refine pk_le K 511 (fun hk => ?_) (fun hk => ?_)
    · refine ⟨10, ?_⟩
      rw [show (8 : Int32) = nI 9 + (-1) by decide]
      refine pk_loopD (fun n i (s : Int64 × Int64) => wX_compareWithConstant_45 post (nI K) f1 f2 a1 a2 a3 a4 a5 a6 a7 a8 a9 a10 a11 n (nI i + (-1)) s.1 s.2) (fun i s => i ≤ 9 ∧ sx_le A K i s) ?_ ?_ 9 (0, -1) ⟨by omega, sx_le_s (by omega) (by omega)⟩
      · intro n s h
        have g := sx_le_e (by omega) hK h.2
        exact br_t (by decide) (H s.1 s.2 g.1 g.2)
      · intro n i s h hw
        show wX_compareWithConstant_45 post (nI K) f1 f2 a1 a2 a3 a4 a5 a6 a7 a8 a9 a10 a11 (n + 1) (nI (i + 1) + (-1)) s.1 s.2
        rw [pk_m1]
        have hi := h.1
        have ex : sx_t (a9 (nI i).toNatClampNeg) = sx_b A i := by rw [nI_clamp (by omega)]; exact ht i (by omega)
        refine pk_lt i 0 (fun z => absurd z (by omega)) (fun _ => ek_if (sx_kb hK (by omega)) (fun hd => ?_) (fun hd => ?_))
        · have ey : false = sx_b K i := (decide_eq_false (by omega)).symm
          refine ⟨pk_in i 9 (by omega), nm_e (nm_e (hw (s.1, s.2 &&& (a9 (nI i).toNatClampNeg ^^^ (-1))) ⟨by omega, sx_le_1 h.2 rfl ey ?_ ?_⟩))⟩
          · rw [Bool.and_false, Bool.or_false]
          · rw [sx_and, sx_not, ex, Bool.xor_false]
        · have ey : true = sx_b K i := (decide_eq_true (by omega)).symm
          refine ⟨pk_in i 9 (by omega), nm_e ⟨pk_in i 9 (by omega), nm_e (nm_e (hw (_, _) ⟨by omega, sx_le_1 h.2 rfl ey ?_ ?_⟩))⟩⟩
          · rw [sx_or, sx_and, sx_not, ex, Bool.and_true]
          · rw [sx_and, ex, Bool.xor_true, Bool.not_not]
    · refine H (-1) 0 ?_ ?_
      · rw [sx_m1, decide_eq_true (nI_lt (by omega) hK)]
      · rw [sx_0, decide_eq_false (fun z => absurd ((nI_eq (by omega) hK).mp z) (by omega))]
  · have g : ¬ 0 ≤ p.toInt := fun z => h0 (Int32.le_iff_toInt_le.mpr z)
    have gA : (nI A).toInt = A := nI_toInt (by omega)
    refine H 0 0 ?_ ?_
    · rw [sx_0, decide_eq_false (fun z => absurd (Int32.lt_iff_toInt_lt.mp z) (by omega))]
    · rw [sx_0, decide_eq_false (fun z => absurd (congrArg Int32.toInt z) (by omega))]
theorem sx_cc {post : St2 → Prop} {p q : Int32} {A B : Nat} (c d : Nat) (hc : c < 3) (hd : d < 3) (hp : p = nI c) (hq : q = nI d) (hA : A < 256) (hB : B < 256) (ha : sx_cl8 a1 c A) (hb : sx_cl8 a1 d B)
    (H : ∀ l e, sx_t l = decide (nI A < nI B) → sx_t e = decide (nI A = nI B) → post (f1, f2, l, e, a1, a2, a3, a4, a5, a6, a7, a8, a9, a10, a11)) :
    wpX_compareColumns post (f1, f2, f3, f4, a1, a2, a3, a4, a5, a6, a7, a8, a9, a10, a11) p q := by
  subst hp
  subst hq
  unfold wpX_compareColumns
  dsimp only
  refine ⟨9, ?_⟩
  rw [show (7 : Int32) = nI 8 + (-1) by decide]
  refine pk_loopD (fun n i (s : Int64 × Int64) => wX_compareColumns_15 post (nI c) (nI d) f1 f2 a1 a2 a3 a4 a5 a6 a7 a8 a9 a10 a11 n (nI i + (-1)) s.1 s.2) (fun i s => i ≤ 8 ∧ sx_le A B i s) ?_ ?_ 8 (0, -1) ⟨by omega, sx_le_s (by omega) (by omega)⟩
  · intro n s h
    have g := sx_le_e (by omega) (by omega) h.2
    exact br_t (by decide) (H s.1 s.2 g.1 g.2)
  · intro n i s h hw
    show wX_compareColumns_15 post (nI c) (nI d) f1 f2 a1 a2 a3 a4 a5 a6 a7 a8 a9 a10 a11 (n + 1) (nI (i + 1) + (-1)) s.1 s.2
    rw [pk_m1]
    have hi := h.1
    have ea : sx_t (a1 (8 * nI c + nI i).toNatClampNeg) = sx_b A i := by rw [sx_at (by omega)]; exact ha i (by omega)
    have eb : sx_t (a1 (8 * nI d + nI i).toNatClampNeg) = sx_b B i := by rw [sx_at (by omega)]; exact hb i (by omega)
    refine pk_lt i 0 (fun z => absurd z (by omega)) (fun _ => ⟨pk_in (8 * c + i) 24 (by omega) (sx_ix c i), nm_e ⟨pk_in (8 * d + i) 24 (by omega) (sx_ix d i), nm_e (nm_e (nm_e (nm_e (hw (_, _) ⟨by omega, sx_le_1 h.2 rfl rfl ?_ ?_⟩))))⟩⟩)
    · rw [sx_or, sx_and, sx_and, sx_not, ea, eb]
    · rw [sx_and, sx_not, sx_xor, ea, eb]
theorem sx_chosen {post : Int64 → Prop} {x y h : Int32} (hl : sx_t f3 = decide (x < y)) (he : sx_t f4 = decide (x = y))
    (H : ∀ r, sx_t r = sx_cmp x h y → post r) :
    wpX_chosen post (f1, f2, f3, f4, a1, a2, a3, a4, a5, a6, a7, a8, a9, a10, a11) h := by
  unfold wpX_chosen
  dsimp only
  unfold sx_cmp at H
  refine br_c (fun h0 => H _ ?_) (fun h0 => br_c (fun h1 => H _ ?_) (fun h1 => br_c (fun h2 => H _ ?_) (fun h2 => br_c (fun h3 => H _ ?_) (fun h3 => br_c (fun h4 => H _ ?_) (fun h4 => H _ ?_)))))
  · rw [if_pos h0, he]
  · rw [if_neg h0, if_pos h1, hl]
  · rw [if_neg h0, if_neg h1, if_pos h2, sx_or, hl, he]
  · rw [if_neg h0, if_neg h1, if_neg h2, if_pos h3, sx_not, he]
  · rw [if_neg h0, if_neg h1, if_neg h2, if_neg h3, if_pos h4, sx_not, hl]
  · rw [if_neg h0, if_neg h1, if_neg h2, if_neg h3, if_neg h4, sx_not, sx_or, hl, he]
theorem sx_181 {post : Int64 → St2 → Prop} {x y h : Int32} {k : Nat} (hk : k < 16) (hh : a5 k = h) (hl : sx_t f3 = decide (x < y)) (he : sx_t f4 = decide (x = y))
    (H : ∀ r, sx_t r = sx_cmp x h y → post r (f1, f2, f3, f4, a1, a2, a3, a4, a5, a6, a7, a8, a9, a10, a11)) :
    wX_workOut_181 post (nI k) f1 f2 f3 f4 a1 a2 a3 a4 a5 a6 a7 a8 a9 a10 a11 := by
  unfold wX_workOut_181
  rw [nI_clamp (show k < 2 ^ 31 by omega), hh]
  exact ⟨pk_in k 16 hk, sx_chosen hl he H⟩
end
end
section
/-- the three answers -/
def sx_E (A B : Nat) (h u w : Int32) : Nat → Bool
  | 0 => sx_cmp (nI A) h u
  | 1 => sx_cmp (nI A) h (nI B)
  | _ => sx_cmp (nI (B + A)) h w
/-- the table: row 33 holds A, B, 7; three conditions -/
def sx_K (A B : Nat) (h u w : Int32) (a1 : Nat → Int64) (a2 a3 a4 a5 a6 : Nat → Int32) : Prop :=
  (A < 256 ∧ B < 256) ∧ (sx_cl8 a1 0 A ∧ sx_cl8 a1 1 B ∧ sx_cl8 a1 2 7) ∧ (a2 0 = 0 ∧ a3 0 = 0 ∧ a5 0 = h ∧ a6 0 = u) ∧ (a2 1 = 1 ∧ a3 1 = 0 ∧ a4 1 = 1 ∧ a5 1 = h) ∧ (a2 2 = 2 ∧ a3 2 = 1 ∧ a4 2 = 0 ∧ a5 2 = h ∧ a6 2 = w)
/-- what is fresh is right -/
def sx_F (E : Nat → Bool) (a7 : Nat → Int64) (a8 : Nat → Int32) : Prop := ∀ k, k < 3 → ¬ a8 k = 0 → a7 k = sx_m (E k)
theorem sx_F1 {E : Nat → Bool} {a7 : Nat → Int64} {a8 : Nat → Int32} {i : Nat} {x : Int64} {y : Int32} (h : sx_F E a7 a8) (hx : x = sx_m (E i)) : sx_F E (vp_updL a7 i x) (upd a8 i y) := by
  intro k hk h8
  by_cases e : k = i
  · rw [e, pk_uLs, hx]
  · rw [pk_un e] at h8
    rw [pk_uLn e]
    exact h k hk h8
section
variable {f1 : Int64} {f2 : Int32} {f3 f4 : Int64} {a1 : Nat → Int64} {a2 a3 a4 a5 a6 : Nat → Int32} {a7 : Nat → Int64} {a8 : Nat → Int32} {a9 a10 a11 : Nat → Int64} {A B : Nat} {h u w : Int32}
theorem sx_work0 {post : Int64 → St2 → Prop} (K : sx_K A B h u w a1 a2 a3 a4 a5 a6)
    (H : ∀ r l e t, sx_t r = sx_E A B h u w 0 → post r (f1, f2, l, e, a1, a2, a3, a4, a5, a6, a7, a8, t, a10, a11)) :
    wpX_workOut post (f1, f2, f3, f4, a1, a2, a3, a4, a5, a6, a7, a8, a9, a10, a11) (nI 0) := by
  obtain ⟨⟨hA, hB⟩, ⟨c0, c1, c2⟩, ⟨k1, k2, k3, k4⟩, -, -⟩ := K
  unfold wpX_workOut
  dsimp only
  rw [nI_clamp (show 0 < 2 ^ 31 by omega)]
  refine ⟨pk_in 0 16 (by omega), br_f (by rw [k1]; decide) ⟨pk_in 0 16 (by omega), br_t k1 ⟨pk_in 0 16 (by omega), ?_⟩⟩⟩
  refine sx_take 0 (by omega) k2 hA c0 (fun t ht => ⟨pk_in 0 16 (by omega), ?_⟩)
  dsimp only
  refine sx_cwc (A := A) k4 (by omega) ht (fun l e hl he => ?_)
  exact sx_181 (by omega) k3 hl he (fun r hr => H r l e t hr)
theorem sx_work1 {post : Int64 → St2 → Prop} (K : sx_K A B h u w a1 a2 a3 a4 a5 a6)
    (H : ∀ r l e t, sx_t r = sx_E A B h u w 1 → post r (f1, f2, l, e, a1, a2, a3, a4, a5, a6, a7, a8, t, a10, a11)) :
    wpX_workOut post (f1, f2, f3, f4, a1, a2, a3, a4, a5, a6, a7, a8, a9, a10, a11) (nI 1) := by
  obtain ⟨⟨hA, hB⟩, ⟨c0, c1, c2⟩, -, ⟨k1, k2, k3, k4⟩, -⟩ := K
  unfold wpX_workOut
  dsimp only
  rw [nI_clamp (show 1 < 2 ^ 31 by omega)]
  refine ⟨pk_in 1 16 (by omega), br_f (by rw [k1]; decide) ⟨pk_in 1 16 (by omega), br_f (by rw [k1]; decide) ⟨pk_in 1 16 (by omega), br_t k1 ⟨pk_in 1 16 (by omega), pk_in 1 16 (by omega), ?_⟩⟩⟩⟩
  refine sx_cc 0 1 (by omega) (by omega) k2 k3 hA hB c0 c1 (fun l e hl he => ?_)
  exact sx_181 (by omega) k4 hl he (fun r hr => H r l e a9 hr)
theorem sx_work2 {post : Int64 → St2 → Prop} (K : sx_K A B h u w a1 a2 a3 a4 a5 a6)
    (H : ∀ r l e t, sx_t r = sx_E A B h u w 2 → post r (f1, f2, l, e, a1, a2, a3, a4, a5, a6, a7, a8, t, a10, a11)) :
    wpX_workOut post (f1, f2, f3, f4, a1, a2, a3, a4, a5, a6, a7, a8, a9, a10, a11) (nI 2) := by
  obtain ⟨⟨hA, hB⟩, ⟨c0, c1, c2⟩, -, -, ⟨k1, k2, k3, k4, k5⟩⟩ := K
  unfold wpX_workOut
  dsimp only
  rw [nI_clamp (show 2 < 2 ^ 31 by omega)]
  refine ⟨pk_in 2 16 (by omega), br_f (by rw [k1]; decide) ⟨pk_in 2 16 (by omega), br_f (by rw [k1]; decide) ⟨pk_in 2 16 (by omega), br_f (by rw [k1]; decide) ⟨pk_in 2 16 (by omega), pk_in 2 16 (by omega), ?_⟩⟩⟩⟩
  refine sx_add 1 0 (by omega) (by omega) k2 k3 hB hA c1 c0 (fun t ht => ⟨pk_in 2 16 (by omega), ?_⟩)
  dsimp only
  refine sx_cwc (A := B + A) k5 (by omega) ht (fun l e hl he => ?_)
  exact sx_181 (by omega) k4 hl he (fun r hr => H r l e t hr)
theorem sx_workOut {post : Int64 → St2 → Prop} (k : Nat) (hk : k < 3) (K : sx_K A B h u w a1 a2 a3 a4 a5 a6)
    (H : ∀ r l e t, sx_t r = sx_E A B h u w k → post r (f1, f2, l, e, a1, a2, a3, a4, a5, a6, a7, a8, t, a10, a11)) :
    wpX_workOut post (f1, f2, f3, f4, a1, a2, a3, a4, a5, a6, a7, a8, a9, a10, a11) (nI k) := by
  have hc : k = 0 ∨ k = 1 ∨ k = 2 := by omega
  rcases hc with e | e | e
  · subst e
    exact sx_work0 K H
  · subst e
    exact sx_work1 K H
  · subst e
    exact sx_work2 K H
theorem sx_rowsOf {post : Int64 → St2 → Prop} {p : Int32} (c : Nat) (hc : c < 3) (hp : p = nI c) (K : sx_K A B h u w a1 a2 a3 a4 a5 a6) (F : sx_F (sx_E A B h u w) a7 a8)
    (H : ∀ l e b7 b8 t, sx_F (sx_E A B h u w) b7 b8 → post (sx_m (sx_E A B h u w c)) (8589934592, f2, l, e, a1, a2, a3, a4, a5, a6, b7, b8, t, a10, a11)) :
    wpX_rowsOf post (8589934592, f2, f3, f4, a1, a2, a3, a4, a5, a6, a7, a8, a9, a10, a11) p := by
  subst hp
  unfold wpX_rowsOf
  dsimp only
  refine br_t (nI_pos' (by omega)) ?_
  refine pk_loop (fun n i (s : Int64 × Int64 × (Nat → Int64) × (Nat → Int32) × (Nat → Int64)) => wX_rowsOf_11 post (nI c) n (nI i) 8589934592 f2 s.1 s.2.1 a1 a2 a3 a4 a5 a6 s.2.2.1 s.2.2.2.1 s.2.2.2.2 a10 a11) (fun i s => sx_F (sx_E A B h u w) s.2.2.1 s.2.2.2.1 ∧ ∀ j, j < i → ¬ s.2.2.2.1 j = 0) (c + 1) 0 (f3, f4, a7, a8, a9) (by omega) ⟨F, fun j hj => absurd hj (by omega)⟩ ?_ ?_
  · intro n s hs
    obtain ⟨l, e, b7, b8, t⟩ := s
    refine pk_lt c (c + 1) (fun _ => ⟨pk_in c 16 (by omega), ?_⟩) (fun z => absurd z (by omega))
    rw [nI_clamp (show c < 2 ^ 31 by omega), hs.1 c hc (hs.2 c (by omega))]
    exact H l e b7 b8 t hs.1
  · intro n i s hi hs hw
    obtain ⟨l, e, b7, b8, t⟩ := s
    refine pk_lt c i (fun z => absurd z (by omega)) (fun _ => ⟨pk_in i 16 (by omega), ?_⟩)
    rw [nI_clamp (show i < 2 ^ 31 by omega)]
    refine br_c (fun g => ?_) (fun g => ?_)
    · refine sx_workOut i (by omega) K (fun r l' e' t' hr => ?_)
      refine ⟨pk_in i 16 (by omega), nm_e ⟨pk_in i 16 (by omega), nm_e (nm_r (nI_1 i) (hw (l', e', _, _, t') ⟨?_, ?_⟩))⟩⟩
      · exact sx_F1 hs.1 (by rw [sx_cut, hr])
      · intro j hj
        show ¬ upd b8 i 1 j = 0
        by_cases ej : j = i
        · rw [ej, pk_us]
          decide
        · rw [pk_un ej]
          exact hs.2 j (by omega)
    · refine nm_r (nI_1 i) (hw (l, e, b7, b8, t) ⟨hs.1, ?_⟩)
      intro j hj
      by_cases ej : j = i
      · rw [ej]
        exact g
      · exact hs.2 j (by omega)
theorem sx_ones {post : Int32 → Prop} (c : Bool) (H : post (sx_v c 1)) : wpX_ones post () (sx_m c) := by
  cases c
  · exact nm_r (e' := 0) (by decide) (nm_r (e' := 0) (by decide) (nm_r (e' := 0) (by decide) (ek_v (P := post) (by decide) H)))
  · exact nm_r (e' := 4294967296) (by decide) (nm_r (e' := 4294967296) (by decide) (nm_r (e' := 4294967296) (by decide) (ek_v (P := post) (by decide) H)))
theorem sx_isCond {post : Int32 → Prop} {p : Int32} (c : Nat) (hc : c < 3) (hp : p = nI c) (H : post 1) : wpX_isCondition post (f1, nI 3, f3, f4, a1, a2, a3, a4, a5, a6, a7, a8, a9, a10, a11) p := by
  subst hp
  unfold wpX_isCondition
  dsimp only
  refine br_f (fun z => ?_) (pk_le 3 c (fun z => absurd z (by omega)) (fun _ => H))
  have g := Int32.lt_iff_toInt_lt.mp z
  rw [nI_toInt (by omega), show (-1 : Int32).toInt = -1 by decide] at g
  omega
theorem sx_count {post : Int32 → St2 → Prop} {p : Int32} (c : Nat) (hc : c < 3) (hp : p = nI c) (K : sx_K A B h u w a1 a2 a3 a4 a5 a6) (F : sx_F (sx_E A B h u w) a7 a8)
    (H : ∀ l e b7 b8 t, sx_F (sx_E A B h u w) b7 b8 → post (sx_v (sx_E A B h u w c) 1) (8589934592, nI 3, l, e, a1, a2, a3, a4, a5, a6, b7, b8, t, a10, a11)) :
    wpX_count post (8589934592, nI 3, f3, f4, a1, a2, a3, a4, a5, a6, a7, a8, a9, a10, a11) p := by
  unfold wpX_count
  dsimp only
  refine sx_isCond c hc hp (br_f (by decide) ?_)
  exact sx_rowsOf c hc hp K F (fun l e b7 b8 t F' => sx_ones _ (H l e b7 b8 t F'))
/-- the sum so far -/
def sx_s (c : Bool) (i : Nat) : Int32 := if c then nI (7 / 2 ^ i) else 0
theorem sx_s1 (c : Bool) {i : Nat} (hi : i < 8) : 2 * sx_s c (i + 1) + sx_v (c && sx_b 7 i) 1 = sx_s c i := by
  cases c
  · show 2 * (0 : Int32) + nI 0 = 0
    decide
  · exact sx_7 i hi
theorem sx_sum {post : Int32 → St2 → Prop} {p q : Int32} (hp : p = nI 2) (hq : q = nI 2) (K : sx_K A B h u w a1 a2 a3 a4 a5 a6) (F : sx_F (sx_E A B h u w) a7 a8)
    (H : ∀ l e b7 b8 t, post (sx_v (sx_E A B h u w 2) 7) (8589934592, nI 3, l, e, a1, a2, a3, a4, a5, a6, b7, b8, t, a10, a11)) :
    wpX_sum post (8589934592, nI 3, f3, f4, a1, a2, a3, a4, a5, a6, a7, a8, a9, a10, a11) p q := by
  unfold wpX_sum
  dsimp only
  refine sx_isCol 2 (by omega) hq (br_f (by decide) ?_)
  refine sx_isCond 2 (by omega) hp (br_f (by decide) ?_)
  refine sx_rowsOf 2 (by omega) hp K F (fun l e b7 b8 t _ => ?_)
  subst hq
  refine ⟨9, ?_⟩
  have main : wX_sum_30 post (nI 2) (sx_m (sx_E A B h u w 2)) 8589934592 (nI 3) l e a1 a2 a3 a4 a5 a6 b7 b8 t a10 a11 9 (sx_s (sx_E A B h u w 2) 8) (nI 8 + (-1)) := by
    refine pk_loopD (fun n i (s : Int32) => wX_sum_30 post (nI 2) (sx_m (sx_E A B h u w 2)) 8589934592 (nI 3) l e a1 a2 a3 a4 a5 a6 b7 b8 t a10 a11 n s (nI i + (-1))) (fun i s => i ≤ 8 ∧ s = sx_s (sx_E A B h u w 2) i) ?_ ?_ 8 _ ⟨by omega, rfl⟩
    · intro n s hs
      refine br_t (by decide) ?_
      rw [hs.2]
      exact H l e b7 b8 t
    · intro n i s hs hw
      show wX_sum_30 post (nI 2) (sx_m (sx_E A B h u w 2)) 8589934592 (nI 3) l e a1 a2 a3 a4 a5 a6 b7 b8 t a10 a11 (n + 1) s (nI (i + 1) + (-1))
      rw [pk_m1]
      have hi := hs.1
      refine pk_lt i 0 (fun z => absurd z (by omega)) (fun _ => ⟨pk_in (8 * 2 + i) 24 (by omega) (sx_ix 2 i), ?_⟩)
      rw [sx_mand, sx_at (by omega), K.2.1.2.2 i (by omega)]
      refine sx_ones _ (nm_e (nm_e (hw _ ⟨by omega, ?_⟩)))
      rw [hs.2]
      exact sx_s1 _ (by omega)
  have e0 : sx_s (sx_E A B h u w 2) 8 = 0 := by
    cases sx_E A B h u w 2 <;> decide
  rw [e0, show nI 8 + (-1) = (7 : Int32) by decide] at main
  exact main
end
end
section
theorem sx_compared {post : Int32 → Prop} {x h y : Int32} (H : ∀ r : Int32, r = (if sx_cmp x h y = true then 1 else 0) → post r) : wpL_compared post () x h y := by
  unfold wpL_compared
  have H1 : sx_cmp x h y = true → post 1 := fun e => H 1 (by rw [if_pos e])
  have H0 : sx_cmp x h y = false → post 0 := fun e => H 0 (by rw [if_neg (by rw [e]; decide)])
  unfold sx_cmp at H1 H0
  refine br_c (fun h0 => ?_) (fun h0 => br_c (fun h1 => ?_) (fun h1 => br_c (fun h2 => ?_) (fun h2 => br_c (fun h3 => ?_) (fun h3 => br_c (fun h4 => ?_) (fun h4 => ?_)))))
  · rw [if_pos h0] at H1 H0
    exact br_c (fun z => H1 (decide_eq_true z)) (fun z => H0 (decide_eq_false z))
  · rw [if_neg h0, if_pos h1] at H1 H0
    exact br_c (fun z => H0 (sx_o1 z)) (fun z => H1 (sx_o2 z))
  · rw [if_neg h0, if_neg h1, if_pos h2] at H1 H0
    exact br_c (fun z => H0 (sx_o4 (Int32.not_le.mpr z))) (fun z => H1 (sx_o3 (Int32.not_lt.mp z)))
  · rw [if_neg h0, if_neg h1, if_neg h2, if_pos h3] at H1 H0
    exact br_c (fun z => H0 (by rw [decide_eq_true z]; rfl)) (fun z => H1 (by rw [decide_eq_false z]; rfl))
  · rw [if_neg h0, if_neg h1, if_neg h2, if_neg h3, if_pos h4] at H1 H0
    exact br_c (fun z => H0 (by rw [decide_eq_true z]; rfl)) (fun z => H1 (by rw [decide_eq_false z]; rfl))
  · rw [if_neg h0, if_neg h1, if_neg h2, if_neg h3, if_neg h4] at H1 H0
    exact br_c (fun z => H0 (by rw [sx_o3 z]; rfl)) (fun z => H1 (by rw [sx_o4 z]; rfl))
/-- the law's two roads behind a comparison, the count or sum beside it -/
theorem sx_two {Q : Int32 → Int32 → Prop} {x h y : Int32} (n : Nat) (H : ∀ z, Q z z) : wpL_compared (fun r => (r = 0 → Q 0 (sx_v (sx_cmp x h y) n)) ∧ (¬ r = 0 → Q (nI n) (sx_v (sx_cmp x h y) n))) () x h y := by
  refine sx_compared (fun r hr => ?_)
  cases e : sx_cmp x h y
  · rw [e, if_neg (by decide)] at hr
    exact br_t hr (H 0)
  · rw [e, if_pos rfl] at hr
    exact br_f (by rw [hr]; decide) (H (nI n))
section
variable {f3 f4 : Int64} {a1 : Nat → Int64} {a2 a3 a4 a5 a6 : Nat → Int32} {a7 : Nat → Int64} {a8 : Nat → Int32} {a9 a10 a11 : Nat → Int64} {A B : Nat} {h u w : Int32} {post : Int32 → St0 → Prop} {mc ms kc ks : Nat}
theorem sx_170 (H : post 1 ()) (z : Int32) : wL_lawOf_170 post mc ms z z kc ks := br_t rfl H
theorem sx_137 (H : post 1 ()) (K : sx_K A B h u w a1 a2 a3 a4 a5 a6) (F : sx_F (sx_E A B h u w) a7 a8) (z : Int32) :
    wL_lawOf_137 post mc ms w h (nI A) (nI B) z z kc ks 8589934592 (nI 3) f3 f4 a1 a2 a3 a4 a5 a6 a7 a8 a9 a10 a11 := by
  unfold wL_lawOf_137
  refine br_t rfl ?_
  refine sx_sum rfl rfl K F (fun l e b7 b8 t => ?_)
  rw [nI_add, Nat.add_comm A B]
  exact sx_two (Q := fun x y => wL_lawOf_170 post mc ms x y kc ks) 7 (fun z => sx_170 H z)
theorem sx_109 (H : post 1 ()) (K : sx_K A B h u w a1 a2 a3 a4 a5 a6) (F : sx_F (sx_E A B h u w) a7 a8) (z : Int32) :
    wL_lawOf_109 post mc ms w h (nI A) (nI B) z z kc ks 8589934592 (nI 3) f3 f4 a1 a2 a3 a4 a5 a6 a7 a8 a9 a10 a11 := by
  unfold wL_lawOf_109
  refine br_t rfl ?_
  refine sx_count 1 (by omega) rfl K F (fun l e b7 b8 t F' => ?_)
  exact sx_two (Q := fun x y => wL_lawOf_137 post mc ms w h (nI A) (nI B) x y kc ks 8589934592 (nI 3) l e a1 a2 a3 a4 a5 a6 b7 b8 t a10 a11) 1 (fun z => sx_137 H K F' z)
end
theorem sx_pic {p0 p1 u w : Int32} {t : Nat} {s0 s1 s2 s3 : Nat → Int64} {z : Nat → Int32} (h1 : sx_col 0 p0 s0 8 s1) (h2 : sx_col 1 p1 s1 8 s2) (h3 : sx_col 2 7 s2 8 s3) :
    sx_K (p0.toBitVec.toNat % 256) (p1.toBitVec.toNat % 256) (nI t) u w s3
      (upd (upd (upd z 0 0) 1 1) 2 2) (upd (upd (upd z 0 0) 1 0) 2 1) (upd (upd (upd z 0 0) 1 1) 2 0) (upd (upd (upd z 0 (nI t)) 1 (nI t)) 2 (nI t)) (upd (upd (upd z 0 u) 1 0) 2 w) := by
  refine ⟨⟨Nat.mod_lt _ (by omega), Nat.mod_lt _ (by omega)⟩, ⟨fun j hj => ?_, fun j hj => ?_, fun j hj => ?_⟩, ⟨rfl, rfl, rfl, rfl⟩, ⟨rfl, rfl, rfl, rfl⟩, ⟨rfl, rfl, rfl, rfl, rfl⟩⟩
  · rw [h3.2 _ (by omega), h2.2 _ (by omega), h1.1 j hj, ← sx_b_mod _ hj]
  · rw [h3.2 _ (by omega), h2.1 j hj, ← sx_b_mod _ hj]
  · exact h3.1 j hj
theorem sx_lawOf {post : Int32 → St0 → Prop} {p0 p1 p2 p3 p4 : Int32} (H : post 1 ()) : wpL_lawOf post 252 4032 () p0 p1 p2 p3 p4 := by
  unfold wpL_lawOf
  refine ⟨by omega, by omega, 11, 273, by omega, by omega, ?_⟩
  unfold wpX_init
  dsimp only
  refine ⟨by omega, by omega, by omega, by omega, by omega, by omega, by omega, by omega, by omega, by omega, by omega, by omega, by omega, by omega, by omega, by omega, by omega, by omega, by omega, by omega, by omega, by omega, ?_⟩
  obtain ⟨q, hq, eq⟩ := pk_andE p2 (m := 255) 8 (by decide)
  refine ⟨by decide, nm_r (e' := nI (q % 6)) (by rw [eq]; exact pk_rem (a := q) (d := 6) (by omega) (by decide) (by decide)) (nm_r (pk_and p0 (m := 255) 8 (by decide)) (nm_r (pk_and p1 (m := 255) 8 (by decide)) ?_))⟩
  refine sx_put (fun s1 s2 s3 z h1 h2 h3 hz => ?_)
  refine sx_compare 0 0 (q % 6) (by omega) (by omega) (by omega) rfl rfl rfl (br_t rfl ?_)
  refine sx_columns 1 0 1 (q % 6) (by omega) (by omega) (by omega) (by omega) rfl rfl rfl rfl (br_t rfl ?_)
  refine sx_sums 2 1 0 (q % 6) (by omega) (by omega) (by omega) (by omega) rfl rfl rfl rfl (br_t rfl ?_)
  have K := sx_pic (u := p3) (w := p4) (t := q % 6) (z := fun _ => 0) h1 h2 h3
  refine sx_count 0 (by omega) rfl K (fun k hk h8 => ?_) (fun l e b7 b8 t F => ?_)
  · refine absurd ?_ h8
    have hc : k = 0 ∨ k = 1 ∨ k = 2 := by omega
    rcases hc with e | e | e <;> subst e <;> rfl
  · exact sx_two (Q := fun x y => wL_lawOf_109 post 252 4032 p4 (nI (q % 6)) (nI (p0.toBitVec.toNat % 2 ^ 8)) (nI (p1.toBitVec.toNat % 2 ^ 8)) x y (1 + 11) (15 + 273) 8589934592 (nI 3) l e s3 _ _ _ _ _ b7 b8 t _ _) 1 (fun z => sx_109 H K F z)
theorem sx_cell {post : Int32 → Prop} {L : Nat} {xs : Nat → Int32} {p : Int32} (i : Nat) (hL : L ≤ 5) (hi : i < 5) (hp : p = nI i) (H : ∀ r, post r) : wpL_cellAt post L xs () p := by
  subst hp
  exact pk_le L i (fun _ => H _) (fun z => ⟨pk_in i L z, H _⟩)
theorem i_vc (xs : Nat → Int32) (L : Nat) (hL : L ≤ 5) : wpL_law (fun r => r = 1) L xs := by
  unfold wpL_law
  refine sx_cell 0 hL (by omega) rfl (fun r1 => sx_cell 1 hL (by omega) rfl (fun r2 => sx_cell 2 hL (by omega) rfl (fun r3 => sx_cell 3 hL (by omega) rfl (fun r4 => sx_cell 4 hL (by omega) rfl (fun r5 => ?_)))))
  exact ⟨252, 4032, by omega, by omega, sx_lawOf rfl⟩
end
