/-! PLAIN LAWS for working out the functions f_X -/
def b2i (b : Bool) : Int32 := match b with
  | true => nI 1
  | false => nI 0
theorem nI_lit0 : nI 0 = 0 := rfl
theorem nI_inj {a b : Nat} (ha : a < 2 ^ 31) (hb : b < 2 ^ 31) (h : nI a = nI b) : a = b := (nI_eq ha hb).mp h
theorem oAdd_n (a b : Nat) : oAdd (nI a) (nI b) = some (nI (a + b)) := by rw [oAdd, nI_add]
theorem oMul_n (a b : Nat) : oMul (nI a) (nI b) = some (nI (a * b)) := by rw [oMul, pk_mul]
theorem oSub_n {a b : Nat} (h : b ≤ a) : oSub (nI a) (nI b) = some (nI (a - b)) := by rw [oSub, pk_sub h]
theorem oDiv_n {a b : Nat} (ha : a < 2 ^ 31) (h0 : 0 < b) (hb : b < 2 ^ 31) : oDiv (nI a) (nI b) = some (nI (a / b)) := by rw [oDiv, if_neg (nI_ne0 h0 hb), pk_div ha h0 hb]
theorem oRem_n {a b : Nat} (ha : a < 2 ^ 31) (h0 : 0 < b) (hb : b < 2 ^ 31) : oRem (nI a) (nI b) = some (nI (a % b)) := by rw [oRem, if_neg (nI_ne0 h0 hb), pk_rem ha h0 hb]
theorem oShr_n {a k : Nat} (ha : a < 2 ^ 31) (hk : k < 32) : oShr (nI a) (nI k) = some (nI (a / 2 ^ k)) := by
  have h : ((nI k &&& 31).toBitVec.smod 32).toNat = k := by
    have : ∀ n, n < 32 → ((nI n &&& 31).toBitVec.smod 32).toNat = n := by decide +kernel
    exact this k hk
  rw [oShr, pk_shrN ha _ k h]
theorem oAnd_n {a m : Nat} (ha : a < 2 ^ 31) (k : Nat) (hm : (nI m).toBitVec.toNat = 2 ^ k - 1) : oAnd (nI a) (nI m) = some (nI (a % 2 ^ k)) := by rw [oAnd, pk_andN (by omega) k hm]
theorem rLt_n {a b : Nat} (ha : a < 2 ^ 31) (hb : b < 2 ^ 31) : rLt (nI a) (nI b) = decide (a < b) := by simp only [rLt, nI_ltI ha hb]
theorem rGe_n {a b : Nat} (ha : a < 2 ^ 31) (hb : b < 2 ^ 31) : rGe (nI a) (nI b) = decide (b ≤ a) := by simp only [rGe, nI_leI hb ha]
theorem rGt_n {a b : Nat} (ha : a < 2 ^ 31) (hb : b < 2 ^ 31) : rGt (nI a) (nI b) = decide (b < a) := by simp only [rGt, nI_ltI hb ha]
theorem rLe_n {a b : Nat} (ha : a < 2 ^ 31) (hb : b < 2 ^ 31) : rLe (nI a) (nI b) = decide (a ≤ b) := by simp only [rLe, nI_leI ha hb]
theorem rEq_n {a b : Nat} (ha : a < 2 ^ 31) (hb : b < 2 ^ 31) : rEq (nI a) (nI b) = decide (a = b) := by simp only [rEq, nI_eq ha hb]
theorem rNe_n {a b : Nat} (ha : a < 2 ^ 31) (hb : b < 2 ^ 31) : rNe (nI a) (nI b) = !decide (a = b) := by simp only [rNe, nI_eq ha hb, decide_not]
theorem rLt_0 {a : Nat} (ha : a < 2 ^ 31) : rLt (nI a) 0 = false := by rw [← nI_lit0, rLt_n ha (by decide)]; simp
theorem rGe_0 {a : Nat} (ha : a < 2 ^ 31) : rGe (nI a) 0 = true := by rw [← nI_lit0, rGe_n ha (by decide)]; simp
theorem rGt_0 {a : Nat} (ha : a < 2 ^ 31) : rGt (nI a) 0 = decide (0 < a) := by rw [← nI_lit0, rGt_n ha (by decide)]
theorem rLe_0 {a : Nat} (ha : a < 2 ^ 31) : rLe (nI a) 0 = decide (a = 0) := by rw [← nI_lit0, rLe_n ha (by decide)]; simp
theorem rEq_0 {a : Nat} (ha : a < 2 ^ 31) : rEq (nI a) 0 = decide (a = 0) := by rw [← nI_lit0, rEq_n ha (by decide)]
theorem rNe_0 {a : Nat} (ha : a < 2 ^ 31) : rNe (nI a) 0 = !decide (a = 0) := by rw [← nI_lit0, rNe_n ha (by decide)]
theorem rNe_b (b : Bool) : rNe (b2i b) 0 = b := by cases b <;> decide
theorem rEq_b (b : Bool) : rEq (b2i b) 0 = !b := by cases b <;> decide
theorem jx_ft_b (b : Bool) : jx_ft 1 (.int (b2i b)) = true := by cases b <;> decide
theorem nI_1s (n : Nat) : nI n + nI 1 = nI (n + 1) := nI_add n 1
theorem eIte_10 (c : jx_Cx) (L : List Value) (h : jx_S) : eIte c (eInt (nI 1)) (eInt (nI 0)) L h = jx_b (c L h) fun b h1 => jx_ok (.int (b2i b)) h1 := by
  unfold eIte
  congr 1
  funext b h1
  cases b <;> rfl
theorem jx_ec_eq {F : jx_Mt} {vs L : List Value} {h h1 : jx_S} {v : Option Value} (hF : F vs h = some (.returned v, h1)) : jx_ec F vs L h = jx_ok v h1 := by
  unfold jx_ec
  rw [hF]
  rfl
theorem jx_ec_thr {F : jx_Mt} {vs L : List Value} {h h1 : jx_S} {x : Nat} (hF : F vs h = some (.threw x, h1)) : jx_ec F vs L h = some (.inr (x, h1)) := by
  unfold jx_ec
  rw [hF]
/-- a loop that leaves the heap -/
theorem wh_run {c : jx_Cx} {A : jx_St} {K : jx_Bk} {h : jx_S} (S : Nat → List Value) (N : Nat) (hc : ∀ k, k < N → c (S k) h = jx_ok true h) (hA : ∀ k, k < N → ∀ K', A K' (S k) h = K' (S (k + 1)) h) (hN : c (S N) h = jx_ok false h) : ∀ (n i : Nat), i ≤ N → N - i < n → sWh n c A K (S i) h = K (S N) h := by
  intro n
  induction n with
  | zero => intro i _ h; omega
  | succ n ih =>
    intro i hi hn
    unfold sWh
    by_cases e : i = N
    · subst e
      rw [hN]
      rfl
    · rw [hc i (by omega)]
      show A (sWh n c A K) (S i) h = _
      rw [hA i (by omega)]
      exact ih (i + 1) (by omega) (by omega)
/-- a loop, by an invariant; it may leave the method -/
theorem wh_inv {c : jx_Cx} {A : jx_St} (I : Nat → List Value → jx_S → Prop) (X : Outcome × jx_S → Prop) (N : Nat) (hc : ∀ k L h, k < N → I k L h → c L h = jx_ok true h) (hA : ∀ k L h, k < N → I k L h → (∃ L' h', I (k + 1) L' h' ∧ ∀ K, A K L h = K L' h') ∨ ∃ r, X r ∧ ∀ K, A K L h = some r) (hN : ∀ L h, I N L h → c L h = jx_ok false h) : ∀ (n i : Nat) (L : List Value) (h : jx_S), i ≤ N → N - i < n → I i L h → (∃ L' h', I N L' h' ∧ ∀ K, sWh n c A K L h = K L' h') ∨ ∃ r, X r ∧ ∀ K, sWh n c A K L h = some r := by
  intro n
  induction n with
  | zero => intro i L h _ q; omega
  | succ n ih =>
    intro i L h hi hn hI
    by_cases e : i = N
    · subst e
      refine Or.inl ⟨L, h, hI, fun K => ?_⟩
      unfold sWh
      rw [hN L h hI]
      rfl
    · have hlt : i < N := by omega
      rcases hA i L h hlt hI with ⟨L', h', hI', hK⟩ | ⟨r, hr, hK⟩
      · rcases ih (i + 1) L' h' (by omega) (by omega) hI' with ⟨L2, h2, g1, g2⟩ | ⟨r, g1, g2⟩
        · refine Or.inl ⟨L2, h2, g1, fun K => ?_⟩
          unfold sWh
          rw [hc i L h hlt hI]
          show A (sWh n c A K) L h = _
          rw [hK, g2]
        · refine Or.inr ⟨r, g1, fun K => ?_⟩
          unfold sWh
          rw [hc i L h hlt hI]
          show A (sWh n c A K) L h = _
          rw [hK, g2]
      · refine Or.inr ⟨r, hr, fun K => ?_⟩
        unfold sWh
        rw [hc i L h hlt hI]
        show A (sWh n c A K) L h = _
        rw [hK]
/-- the same without leaving -/
theorem wh_inv0 {c : jx_Cx} {A : jx_St} (I : Nat → List Value → jx_S → Prop) (N : Nat) (hc : ∀ k L h, k < N → I k L h → c L h = jx_ok true h) (hA : ∀ k L h, k < N → I k L h → ∃ L' h', I (k + 1) L' h' ∧ ∀ K, A K L h = K L' h') (hN : ∀ L h, I N L h → c L h = jx_ok false h) (n i : Nat) (L : List Value) (h : jx_S) (hi : i ≤ N) (hn : N - i < n) (hI : I i L h) : ∃ L' h', I N L' h' ∧ ∀ K, sWh n c A K L h = K L' h' := by
  rcases wh_inv I (fun _ => False) N hc (fun k L h hk hI => Or.inl (hA k L h hk hI)) hN n i L h hi hn hI with q | ⟨_, q, _⟩
  · exact q
  · exact q.elim
/-- ors and counts up to a bound -/
def anyB (f : Nat → Bool) : Nat → Bool
  | 0 => false
  | n + 1 => anyB f n || f n
def cntB (f : Nat → Bool) : Nat → Nat
  | 0 => 0
  | n + 1 => cntB f n + (match f n with
    | true => 1
    | false => 0)
theorem anyB_iff {f : Nat → Bool} {n : Nat} : anyB f n = true ↔ ∃ k, k < n ∧ f k = true := by
  induction n with
  | zero => simp [anyB]
  | succ n ih =>
    simp only [anyB, Bool.or_eq_true, ih]
    constructor
    · rintro (⟨k, h1, h2⟩ | h)
      · exact ⟨k, by omega, h2⟩
      · exact ⟨n, by omega, h⟩
    · rintro ⟨k, h1, h2⟩
      by_cases e : k = n
      · subst e; exact Or.inr h2
      · exact Or.inl ⟨k, by omega, h2⟩
theorem anyB_congr {f g : Nat → Bool} {n : Nat} (h : ∀ k, k < n → f k = g k) : anyB f n = anyB g n := by
  induction n with
  | zero => rfl
  | succ n ih => simp only [anyB, ih (fun k hk => h k (by omega)), h n (by omega)]
theorem cntB_congr {f g : Nat → Bool} {n : Nat} (h : ∀ k, k < n → f k = g k) : cntB f n = cntB g n := by
  induction n with
  | zero => rfl
  | succ n ih => simp only [cntB, ih (fun k hk => h k (by omega)), h n (by omega)]
theorem cntB_le (f : Nat → Bool) (n : Nat) : cntB f n ≤ n := by
  induction n with
  | zero => exact Nat.le_refl _
  | succ n ih =>
    simp only [cntB]
    cases f n <;> simp <;> omega
theorem cntB_pos {f : Nat → Bool} {n : Nat} : 0 < cntB f n ↔ ∃ k, k < n ∧ f k = true := by
  induction n with
  | zero => simp [cntB]
  | succ n ih =>
    simp only [cntB]
    constructor
    · intro h
      cases hf : f n with
      | true => exact ⟨n, by omega, hf⟩
      | false =>
        rw [hf] at h
        obtain ⟨k, h1, h2⟩ := ih.mp (by simpa using h)
        exact ⟨k, by omega, h2⟩
    · rintro ⟨k, h1, h2⟩
      by_cases e : k = n
      · subst e; rw [h2]; simp
      · have := ih.mpr ⟨k, by omega, h2⟩
        omega
/-- sums of words -/
def sumW (f : Nat → Int32) : Nat → Int32
  | 0 => nI 0
  | n + 1 => sumW f n + f n * nI (n + 1)
theorem sumW_congr {f g : Nat → Int32} {n : Nat} (h : ∀ k, k < n → f k = g k) : sumW f n = sumW g n := by
  induction n with
  | zero => rfl
  | succ n ih => simp only [sumW, ih (fun k hk => h k (by omega)), h n (by omega)]
theorem rNeEq (x y : Int32) : (!rNe x y) = rEq x y := by simp [rNe, rEq]
theorem rEqNe (x y : Int32) : (!rEq x y) = rNe x y := by simp [rNe, rEq]
/-! branches, as bif -/
theorem eIte_c (c : jx_Cx) (a b : jx_Ex) (L : List Value) (h : jx_S) : eIte c a b L h = jx_b (c L h) fun x h1 => bif x then a L h1 else b L h1 := by
  unfold eIte
  congr 1
theorem cAnd_c (a b : jx_Cx) (L : List Value) (h : jx_S) : cAnd a b L h = jx_b (a L h) fun x h1 => bif x then b L h1 else jx_ok false h1 := by
  unfold cAnd
  congr 1
theorem cOr_c (a b : jx_Cx) (L : List Value) (h : jx_S) : cOr a b L h = jx_b (a L h) fun x h1 => bif x then jx_ok true h1 else b L h1 := by
  unfold cOr
  congr 1
theorem cIte_c (c a b : jx_Cx) (L : List Value) (h : jx_S) : cIte c a b L h = jx_b (c L h) fun x h1 => bif x then a L h1 else b L h1 := by
  unfold cIte
  congr 1
theorem sIf_c (c : jx_Cx) (A B : jx_St) (K : jx_Bk) (L : List Value) (h : jx_S) : sIf c A B K L h = jx_kb (c L h) fun x h1 => bif x then A K L h1 else B K L h1 := by
  unfold sIf
  congr 1
theorem ck_and (x y : Bool) (h : jx_S) : (bif x then jx_ok y h else jx_ok false h) = jx_ok (x && y) h := by cases x <;> rfl
theorem ck_or (x y : Bool) (h : jx_S) : (bif x then jx_ok true h else jx_ok y h) = jx_ok (x || y) h := by cases x <;> rfl
theorem ck_ite (x y z : Bool) (h : jx_S) : (bif x then jx_ok y h else jx_ok z h) = jx_ok (bif x then y else z) h := by cases x <;> rfl
theorem ck_int (x : Bool) (y z : Int32) (h : jx_S) : (bif x then jx_ok (Value.int y) h else jx_ok (.int z) h) = jx_ok (.int (bif x then y else z)) h := by cases x <;> rfl
theorem ck_10 (x : Bool) : (bif x then nI 1 else nI 0) = b2i x := by cases x <;> rfl
theorem ck_nI (x : Bool) (a c : Nat) : (bif x then nI a else nI c) = nI (bif x then a else c) := by cases x <;> rfl
theorem b2i_t : b2i true = nI 1 := rfl
theorem b2i_f : b2i false = nI 0 := rfl
def nIs (a b : Nat) : Int32 := nI a - nI b
theorem oSub_g (a b : Nat) : oSub (nI a) (nI b) = some (nIs a b) := rfl
theorem nIs_le {a b : Nat} (h : b ≤ a) : nIs a b = nI (a - b) := pk_sub h
theorem oDiv_s {a : Nat} (ha : a < 2 ^ 31) : oDiv (nIs a 1) (nI 8) = some (nI ((a - 1) / 8)) := by
  by_cases h : a = 0
  · subst h
    decide +kernel
  · rw [nIs_le (by omega), oDiv_n (by omega) (by decide) (by decide)]
theorem nI_p1 {a : Nat} : nI a + nI 1 = nI (a + 1) := nI_add a 1
theorem ck_n10 (x : Bool) : nI (bif x then 1 else 0) = b2i x := by cases x <;> rfl
theorem bf_and (x y : Bool) : (bif x then y else false) = (x && y) := by cases x <;> rfl
theorem bf_or (x y : Bool) : (bif x then true else y) = (x || y) := by cases x <;> rfl
theorem bf_not (x : Bool) : (bif x then false else true) = !x := by cases x <;> rfl
theorem pm_eta {α β : Type} (p : α × β) : (p.1, p.2) = p := rfl
theorem rGe_not (x y : Int32) : rGe x y = !rLt x y := by
  unfold rGe rLt
  by_cases h : x < y
  · rw [decide_eq_true h, decide_eq_false (Int32.not_le.mpr h)]
    rfl
  · rw [decide_eq_false h, decide_eq_true (Int32.not_lt.mp h)]
    rfl
