/-! caravan: the rows of those who go -/
def swp (L : List Nat) (i j : Nat) : List Nat := (L.set i (L.getD j 0)).set j (L.getD i 0)
def rvN : Nat → List Nat → Nat → Nat → List Nat
  | 0, L, _, _ => L
  | f + 1, L, i, j => if j ≤ i then L else rvN f (swp L i j) (i + 1) (j - 1)
def fjN (L : List Nat) (i : Nat) : Nat → Nat
  | 0 => 0
  | j + 1 => if L.getD i 0 ≤ L.getD (j + 1) 0 then j + 1 else fjN L i j
def fiN (L : List Nat) : Nat → Option Nat
  | 0 => none
  | m + 1 => if L.getD m 0 ≤ L.getD (m + 1) 0 then some m else fiN L m
def nxN (L : List Nat) : Option (List Nat) := match fiN L (L.length - 1) with
  | none => none
  | some i => some (rvN 6 (swp L i (fjN L i (L.length - 1))) (i + 1) (L.length - 1))
def allN : Nat → List Nat → Option (List (List Nat))
  | 0, _ => none
  | f + 1, L => match nxN L with
    | none => some [L]
    | some L' => (allN f L').map (L :: ·)
def perL (g : Nat → List (List Nat)) (set : Nat) : Nat → Nat → List (List Nat)
  | 0, _ => []
  | k + 1, i => (if set.testBit i then (g (set ^^^ 2 ^ i)).map (i :: ·) else []) ++ perL g set k (i + 1)
def perN (n : Nat) : Nat → Nat → List (List Nat)
  | 0, _ => []
  | f + 1, set => if set = 0 then [[]] else perL (perN n f) set n 0
def srt (n set : Nat) : List Nat := (List.range n).filter (fun p => set.testBit p)
def okN (n k : Nat) (L : List Nat) : Bool := L.length == k && L.all (fun x => decide (x < n))
theorem all_per : ∀ n, n < 7 → ∀ set, set < 2 ^ n → allN 721 (srt n set) = some (perN n 7 set) ∧ (perN n 7 set).all (okN n (srt n set).length) = true ∧ Int32.ofNat (pcn 12 set) = Int32.ofNat (srt n set).length ∧ set < 4096 := by decide +kernel
theorem set_m : ∀ set, set < 64 → ∀ p, p < 6 → set.testBit p = true → Int32.ofNat set &&& (Int32.ofNat 1 <<< (Int32.ofNat p &&& Int32.ofNat 31) ^^^ -Int32.ofNat 1) = Int32.ofNat (set ^^^ 2 ^ p) ∧ set ^^^ 2 ^ p < 64 ∧ set ^^^ 2 ^ p < set := by decide +kernel
