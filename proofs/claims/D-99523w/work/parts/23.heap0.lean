/-! THE HEAP AT THE LAW'S ENTRY (printed by gen3.py): the script, NAMES, the texts -/
def tB : List (List Int) := [[115, 104, 101, 101, 116], [103, 111, 101, 114], [106, 111, 105, 110], [115, 116, 111, 110, 101], [116, 117, 114, 110], [105, 102], [110, 111, 116], [97, 110, 100], [111, 114], [99, 101, 108, 108], [114, 111, 119], [99, 111, 108, 117, 109, 110], [102, 97, 99, 101, 115], [102, 111, 111, 100], [109, 97, 114, 103, 105, 110], [104, 101, 114, 101], [98, 101, 101, 110], [115, 116, 101, 112]]
def nmL : List Nat := [S_goer, S_cell, S_row, S_column, S_faces, S_food, S_margin, S_stone, S_here, S_been, S_step]
def xB (i : Nat) : List Int := if 5 ≤ i ∧ i % 2 = 1 then tB.getD ((i - 5) / 2) [] else []
def xP (i : Nat) (k : Int) : Option Nat := if i = 1 then (if 0 ≤ k then nmL[k.toNat]? else none) else if 4 ≤ i ∧ i % 2 = 0 ∧ i < 40 then (if k = 0 then some (extAd (i + 1)) else none) else none
def H0 (L : Nat) (xs : Nat → Int32) : AH := ((64, fun i => if i = 0 then mk 0 7 L else extAd i), (fun a k => if ix a = 0 then (xs k.toNat).toInt else (xB (ix a)).getD k.toNat 0), (fun _ _ => 0), fun a k => xP (ix a) k)
