/-! PL 13: a State against a row -/
set_option maxRecDepth 100000
/-- two codes of one word of one to six small letters: the component's (eight bits a letter), the reference's (27) -/
def w256 (l : List Nat) : Int64 := l.foldl (fun v d => v <<< 8 ||| Int64.ofNat d) 0
def w27 (l : List Nat) : Int64 := l.foldl (fun v d => 27 * v + Int64.ofNat d - 96) 0
def IsW (l : List Nat) : Prop := 1 ≤ l.length ∧ l.length ≤ 6 ∧ ∀ d ∈ l, 97 ≤ d ∧ d ≤ 122
def NC (a b : Int64) : Prop := ∃ l, IsW l ∧ a = w256 l ∧ b = w27 l
/-- bit k of a set -/
def bit (x : Int32) (k : Nat) : Int32 := if ((x >>> (I k &&& 31)) &&& (1 : Int32)) = (1 : Int32) then 1 else 0
