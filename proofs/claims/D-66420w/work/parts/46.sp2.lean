/-! mend, write, step, start -/
def md1 (c cv cl : Nat) (pr : Nat → Bool) (T : Nat → Nat) (v k : Nat) (U : Nat → Nat) : Option (Nat → Nat) := bif decide (T (9 + 10 * v + k) = 0) && decide (0 < T (9 + 10 * v + twN k)) then (bif decide (rom U c cv cl pr v k (-1) = 0) then none else some (upN U (9 + 10 * v + k) (rom U c cv cl pr v k (-1)))) else some U
def mds (c cv cl : Nat) (pr : Nat → Bool) (T : Nat → Nat) (v : Nat) : Nat → Nat → (Nat → Nat) → Option (Nat → Nat)
  | _, 0, U => some U
  | k, m + 1, U => match md1 c cv cl pr T v k U with
    | none => none
    | some U' => mds c cv cl pr T v (k + 1) m U'
def mdc (T : Nat → Nat) (v : Nat) : Nat := cntB (fun k => decide (T (9 + 10 * v + k) = 0) && decide (0 < T (9 + 10 * v + twN k))) (2 * elsN T v)
/-- four words of a leg become those of its twin -/
def cpy1 (x : xA) (leg from' : Nat) : xA := itr (fun w y => wD y (4 * (leg - 1) + w) (xfd y.2.1 (4 * (from' - 1) + w))) 4 x
def cpys (T N : Nat → Nat) (v m : Nat) (x : xA) : xA := itr (fun k y => bif decide (N (9 + 10 * v + k) = T (9 + 10 * v + k)) then y else cpy1 y (N (9 + 10 * v + k)) (T (9 + 10 * v + twN k))) m x
def sp_mend (v : Int32) (s : xS) : Nat × Int32 × xS := bif !s.2.1.2.2.1 then (1, nI 0, s) else bif !isV s.2.2.1 v then (2, nI 0, s) else bif !decide (s.2.2.1 (5 + v.toNatClampNeg) % 4 = 3) then (3, nI 0, s) else bif absn s.2.2.1 s.1 then (4, nI 0, s) else
  match mds (ec s.2.1.2.2.2.2 s.2.2.2.2.2.1) s.2.2.2.1 s.2.2.2.2.1 s.1 s.2.2.1 v.toNatClampNeg 0 (2 * elsN s.2.2.1 v.toNatClampNeg) s.2.2.1 with
  | none => (4, nI 0, s)
  | some N => bif decide (mdc s.2.2.1 v.toNatClampNeg = 0) then (0, nI 0, s) else enS (chS (setX s (cpys s.2.2.1 N v.toNatClampNeg 10 s.2.1)) (nx1 s N)) (nI (mdc s.2.2.1 v.toNatClampNeg))
/-- a word to a leg, and to the leg that it is being copied to -/
def wrt1 (s : xS) (k at' : Nat) (val : Int32) (x : xA) : xA :=
  bif decide (0 < s.2.2.1 k) then
    (let y := wD x (4 * (s.2.2.1 k - 1) + at') val
     bif y.2.2.1 && rGe y.2.2.2.2 0 && decide (0 < s.2.2.2.2.2.1) && decide (k = 9 + 10 * s.2.2.2.1 + s.2.2.2.2.1) && decide (at' < s.2.2.2.2.2.2) then wD y (4 * (s.2.2.2.2.2.1 - 1) + at') val else y) else x
def sp_write (v w val : Int32) (s : xS) : Nat × Int32 × xS := bif !s.2.1.2.2.1 then (1, nI 0, s) else bif !isV s.2.2.1 v then (2, nI 0, s) else bif rLt w 0 || rGe w (nI (4 * elsN s.2.2.1 v.toNatClampNeg)) then (3, nI 0, s) else
  let f := 9 + 10 * v.toNatClampNeg + 2 * elO s.2.2.1 v.toNatClampNeg w.toNatClampNeg
  bif !rdb s.1 (s.2.2.1 f) && !rdb s.1 (s.2.2.1 (f + 1)) then (4, nI 0, s) else
  let both := rdb s.1 (s.2.2.1 f) && rdb s.1 (s.2.2.1 (f + 1))
  let lost := bif rdb s.1 (s.2.2.1 f) then f + 1 else f
  let s1 := bif !both && decide (0 < s.2.2.1 lost) then chS s (upN (nx0 s.1 s.2.2.1) lost 0) else s
  let at' := wdO s.2.2.1 v.toNatClampNeg w.toNatClampNeg
  enS (setX s1 (wrt1 s1 (f + 1) at' val (wrt1 s1 f at' val s1.2.1))) (bif both then nI 2 else nI 1)
/-- a word of the leg that is moved -/
def stp2 (s : xS) : Nat × Int32 × xS :=
  let at' := 9 + 10 * s.2.2.2.1 + s.2.2.2.2.1
  let x1 := wD s.2.1 (4 * (s.2.2.2.2.2.1 - 1) + s.2.2.2.2.2.2) (xfd s.2.1.2.1 (4 * (s.2.2.1 at' - 1) + s.2.2.2.2.2.2))
  let s1 : xS := (s.1, x1, s.2.2.1, s.2.2.2.1, s.2.2.2.2.1, s.2.2.2.2.2.1, s.2.2.2.2.2.2 + 1)
  let s2 := bif x1.2.2.1 && decide (s1.2.2.2.2.2.2 = 4) then chS s1 (upN (nx0 s1.1 s1.2.2.1) at' s1.2.2.2.2.2.1) else s1
  let n := bif rLt s2.2.1.2.2.2.2 0 then 0 else legsN s2.2.2.1 s2.2.1.2.2.2.2.toNatClampNeg
  enS (setMo s2 (bif decide (n = 0) then -1 else s2.2.1.2.2.2.2)) (nI n)
def sp_step (s : xS) : Nat × Int32 × xS := bif !s.2.1.2.2.1 then (1, nI 0, s) else bif rLt s.2.1.2.2.2.2 0 then (2, nI 0, s) else
  bif decide (s.2.2.2.2.2.1 = 0) then (match scn (fun k => decide (0 < s.2.2.1 (9 + k)) && rEq (nI ((s.2.2.1 (9 + k) - 1) / 8)) s.2.1.2.2.2.2) 0 40 with
    | none => (0, nI 0, setMo s (-1))
    | some k => (let s1 : xS := (s.1, s.2.1, s.2.2.1, k / 10, k % 10, rom s.2.2.1 0 (k / 10) (k % 10) s.1 (k / 10) (k % 10) s.2.1.2.2.2.2, 0)
      bif decide (s1.2.2.2.2.2.1 = 0) then (0, -1, setMo s1 (-1)) else stp2 s1)) else stp2 s
/-- the newest whole slot -/
def bst (pr : Nat → Bool) (sl : Nat → Nat → Int32) : Nat → Option (Nat × Nat) × Nat
  | 0 => (none, 0)
  | i + 1 => bif pr (i / 2) && decide ((bst pr sl i).2 < sltN sl (i / 2) (i % 2)) then (some (i / 2, i % 2), sltN sl (i / 2) (i % 2)) else bst pr sl i
def stW (pr : Nat → Bool) (T : Nat → Nat) (x : xA) : xA := itr (fun d y => bif decide (0 < T (1 + d)) && pr d && !decide (sltN y.1 d 0 = T 0) && !decide (sltN y.1 d 1 = T 0) then wTo y d (wds T) else y) 4 x
def alk (pr : Nat → Bool) (T : Nat → Nat) (i : Nat) (x : xA) : xA := bif rdb pr (T (9 + 2 * i)) && rdb pr (T (9 + 2 * i + 1)) then itr (fun w y => (y.1, upD y.2.1 (4 * (T (9 + 2 * i + 1) - 1) + w) (xfd y.2.1 (4 * (T (9 + 2 * i) - 1) + w)), y.2.2)) 4 x else x
def stA (pr : Nat → Bool) (T : Nat → Nat) (x : xA) : xA := itr (alk pr T) 20 x
def rdT (sl : Nat → Nat → Int32) : Option (Nat × Nat) → Nat → Nat
  | none => fun _ => 0
  | some (d, t) => fun k => if k < 49 then (sl d (51 * t + k)).toNatClampNeg else 0
def sp_start (s : xS) : Nat × Int32 × xS := bif s.2.1.2.2.1 then (1, nI 0, s) else
  let T' := rdT s.2.1.1 (bst s.1 s.2.1.1 8).1
  let x0 : xA := (s.2.1.1, s.2.1.2.1, true, s.2.1.2.2.2.1, -1)
  (0, nI (bst s.1 s.2.1.1 8).2, (s.1, stA s.1 T' (stW s.1 T' x0), T', s.2.2.2.1, s.2.2.2.2.1, 0, s.2.2.2.2.2.2))
