/-! Part B: what is read: one parse of bytes t, to n -/
abbrev PR (α : Type) : Type := (Nat × Nat) ⊕ (α × Nat)
def bnd {α β : Type} (x : PR α) (f : α → Nat → PR β) : PR β := match x with
  | .inl e => .inl e
  | .inr (v, a) => f v a
theorem bnd_l {α β : Type} {e : Nat × Nat} {f : α → Nat → PR β} : bnd (.inl e) f = .inl e := rfl
theorem bnd_r {α β : Type} {v : α} {a : Nat} {f : α → Nat → PR β} : bnd (.inr (v, a)) f = f v a := rfl
/-- behind spaces -/
def skF (t : Nat → Nat) (n : Nat) : Nat → Nat → Nat
  | 0, a => a
  | f + 1, a => if a < n ∧ t a = 32 then skF t n f (a + 1) else a
def sk (t : Nat → Nat) (n a : Nat) : Nat := skF t n (n - a) a
/-- the word that stands at a -/
abbrev small (x : Nat) : Prop := 97 ≤ x ∧ x ≤ 122
abbrev digit (x : Nat) : Prop := 48 ≤ x ∧ x ≤ 57
def wdF (t : Nat → Nat) (n : Nat) : Nat → Nat → List Nat
  | 0, _ => []
  | f + 1, a => if a < n ∧ small (t a) then t a :: wdF t n f (a + 1) else []
def wd (t : Nat → Nat) (n a : Nat) : List Nat := wdF t n (n - a) a
/-- digits: what they tell, and behind them -/
def dgF (t : Nat → Nat) (n : Nat) : Nat → Nat → Nat → Nat × Nat
  | 0, v, a => (v, a)
  | f + 1, v, a => if a < n ∧ digit (t a) then dgF t n f (10 * v + (t a - 48)) (a + 1) else (v, a)
/-- a number from lo on, below hi -/
def nm (t : Nat → Nat) (n lo hi a : Nat) : PR Nat :=
  if sk t n a < n ∧ digit (t (sk t n a)) then
    (if lo ≤ (dgF t n (n - sk t n a) 0 (sk t n a)).1 ∧ (dgF t n (n - sk t n a) 0 (sk t n a)).1 < hi then .inr (dgF t n (n - sk t n a) 0 (sk t n a)) else .inl (2, sk t n a))
  else .inl (1, sk t n a)
/-- a sign stands next -/
abbrev sg (t : Nat → Nat) (n c a : Nat) : Prop := sk t n a < n ∧ t (sk t n a) = c
def sgU (t : Nat → Nat) (n c a : Nat) : PR Unit := if sg t n c a then .inr ((), sk t n a + 1) else .inl (1, sk t n a)
def idx (w : List Nat) : List (List Nat) → Nat → Option Nat
  | [], _ => none
  | x :: l, i => if w = x then some i else idx w l (i + 1)
def kwW : List (List Nat) := [[99, 97, 114, 100], [119, 97, 114, 109], [105, 110], [114, 111, 111, 109], [109, 105, 110, 117, 116, 101], [115, 101, 101, 110], [108, 97, 115, 116], [118, 105, 115, 105, 116]]
def acW : List (List Nat) := [[112, 117, 116], [116, 97, 107, 101], [108, 111, 111, 107], [115, 116, 97, 114, 116], [101, 109, 112, 116, 121], [99, 108, 101, 97, 110], [100, 105, 114, 116, 121], [116, 117, 114, 110]]
def ofW : List (List Nat) := [[109, 97, 99, 104, 105, 110, 101], [112, 101, 114, 115, 111, 110], [99, 111, 109, 101, 115], [99, 117, 112, 115], [99, 97, 114, 100], [102, 97, 108, 108], [119, 97, 114, 109], [115, 101, 101], [99, 111, 115, 116]]
abbrev CS : Type := List (Nat × Int32)
/-- left to right, by one sign -/
def lpS (t : Nat → Nat) (n : Nat) (v : Nat → PR CS) (op : Nat → Option (Nat × Nat)) : Nat → CS → Nat → PR CS
  | 0, c, a => .inr (c, a)
  | f + 1, c, a => match op a with
    | none => .inr (c, sk t n a)
    | some (x, a1) => bnd (v a1) (fun c2 a2 => lpS t n v op f (c ++ c2 ++ [(x, 0)]) a2)
def opM (t : Nat → Nat) (n a : Nat) : Option (Nat × Nat) := if sg t n 42 a then some (4, sk t n a + 1) else none
def opP (t : Nat → Nat) (n a : Nat) : Option (Nat × Nat) := if sg t n 43 a then some (2, sk t n a + 1) else if sg t n 45 a then some (3, sk t n a + 1) else none
def opW (t : Nat → Nat) (n : Nat) (w : List Nat) (x a : Nat) : Option (Nat × Nat) := if wd t n (sk t n a) = w then some (x, sk t n a + w.length) else none
def prodOf (t : Nat → Nat) (n : Nat) (v : Nat → PR CS) (a : Nat) : PR CS := bnd (v a) (lpS t n v (opM t n) (n + 1))
def sumOf (t : Nat → Nat) (n : Nat) (v : Nat → PR CS) (a : Nat) : PR CS := bnd (prodOf t n v a) (lpS t n (prodOf t n v) (opP t n) (n + 1))
/-- a figure, a fact -/
def leafV (t : Nat → Nat) (n a : Nat) : PR CS := match idx (wd t n (sk t n a)) kwW 0 with
  | some k => .inr ([(1, nI k)], sk t n a + (wd t n (sk t n a)).length)
  | none => bnd (nm t n 0 1000 a) (fun v a1 => .inr ([(0, nI v)], a1))
/-- d: how often may still be opened -/
def pVal (t : Nat → Nat) (n : Nat) : Nat → Nat → PR CS
  | 0, a => if sg t n 40 a then .inl (3, sk t n a) else leafV t n a
  | d + 1, a => if sg t n 40 a then bnd (sumOf t n (pVal t n d) (sk t n a + 1)) (fun c a1 => bnd (sgU t n 41 a1) (fun _ a2 => .inr (c, a2))) else leafV t n a
def allOf (t : Nat → Nat) (n : Nat) (v : Nat → PR CS) (a : Nat) : PR CS := bnd (v a) (lpS t n v (opW t n [97, 110, 100] 9) (n + 1))
def anyOf (t : Nat → Nat) (n : Nat) (v : Nat → PR CS) (a : Nat) : PR CS := bnd (allOf t n v a) (lpS t n (allOf t n v) (opW t n [111, 114] 10) (n + 1))
/-- a sum against another -/
def cmpV (t : Nat → Nat) (n : Nat) (d a : Nat) : PR CS := bnd (sumOf t n (pVal t n d) a) (fun c a1 =>
  if sg t n 60 a1 ∨ sg t n 62 a1 ∨ sg t n 61 a1 then bnd (sumOf t n (pVal t n d) (sk t n a1 + 1)) (fun c2 a2 => .inr (c ++ c2 ++ [((if sg t n 60 a1 then 5 else if sg t n 62 a1 then 6 else 7), 0)], a2)) else .inl (1, sk t n a1))
def pOne (t : Nat → Nat) (n : Nat) : Nat → Nat → PR CS
  | 0, a => if wd t n (sk t n a) = [110, 111, 116] ∨ sg t n 91 a then .inl (3, sk t n a) else cmpV t n 0 a
  | d + 1, a => if wd t n (sk t n a) = [110, 111, 116] then bnd (pOne t n d (sk t n a + 3)) (fun c a1 => .inr (c ++ [(8, 0)], a1))
    else if sg t n 91 a then bnd (anyOf t n (pOne t n d) (sk t n a + 1)) (fun c a1 => bnd (sgU t n 93 a1) (fun _ a2 => .inr (c, a2))) else cmpV t n (d + 1) a
def pAny (t : Nat → Nat) (n a : Nat) : PR CS := anyOf t n (pOne t n 6) a
/-- one step: what, by how much, if -/
def pStep (t : Nat → Nat) (n a m : Nat) : PR StT := match idx (wd t n (sk t n a)) acW 0 with
  | none => .inl (1, sk t n a)
  | some k => if m = 8 then .inl (3, sk t n a) else
    bnd (if wd t n (sk t n (sk t n a + (wd t n (sk t n a)).length)) = [98, 121] then nm t n 1 17 (sk t n (sk t n a + (wd t n (sk t n a)).length) + 2) else .inr (0, sk t n (sk t n a + (wd t n (sk t n a)).length))) (fun q a1 =>
    bnd (if wd t n (sk t n a1) = [105, 102] then pAny t n (sk t n a1 + 2) else .inr ([], sk t n a1)) (fun c a2 =>
    bnd (sgU t n 59 a2) (fun _ a3 => .inr ((k, q, c), a3))))
def pHab (t : Nat → Nat) (n : Nat) : Nat → List StT → Nat → PR (List StT)
  | 0, l, a => .inr (l, a)
  | f + 1, l, a => if sk t n a < n then bnd (pStep t n a l.length) (fun S a1 => pHab t n f (l ++ [S]) a1) else .inr (l, sk t n a)
