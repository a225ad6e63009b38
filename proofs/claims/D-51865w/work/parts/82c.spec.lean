/-! ===== what a text says, in plain numbers: an error (its code, its place), or a row and the next token's place ===== -/
abbrev PR : Type := (Int × Nat) ⊕ (tRow × Nat)
/-- the words -/
def wBar : List Int := [98, 97, 114]
def wBelow : List Int := [98, 101, 108, 111, 119]
def wBlock : List Int := [98, 108, 111, 99, 107]
def wCorner : List Int := [99, 111, 114, 110, 101, 114]
def wElbow : List Int := [101, 108, 98, 111, 119]
def wPass : List Int := [112, 97, 115, 115]
def wPlace : List Int := [112, 108, 97, 99, 101]
def wPlayer : List Int := [112, 108, 97, 121, 101, 114]
def wRight : List Int := [114, 105, 103, 104, 116]
def wRod : List Int := [114, 111, 100]
def wSquare : List Int := [115, 113, 117, 97, 114, 101]
def wStrap : List Int := [115, 116, 114, 97, 112]
def wTrunk : List Int := [116, 114, 117, 110, 107]
section SP
variable (inp : Nat → Int) (n : Nat)
/-- what is wrong with a number at p: nothing 0, no number 1, its range 2 -/
def hC (lo hi : Int) (p : Nat) : Int := if tkK inp n p = 2 then (if lo ≤ tkV inp n p ∧ tkV inp n p ≤ hi then 0 else 2) else 1
/-- a number's sequel -/
def nuS {α : Type} (lo hi : Int) (p : Nat) (k : Int → (Int × Nat) ⊕ α) : (Int × Nat) ⊕ α := if hC inp n lo hi p = 0 then k (tkV inp n p) else .inl (hC inp n lo hi p, tkF inp n p)
/-- a check's sequel -/
def ckS {α : Type} (b : Bool) (c : Int) (p : Nat) (k : (Int × Nat) ⊕ α) : (Int × Nat) ⊕ α := if b = true then .inl (c, tkF inp n p) else k
/-- a statement's end behind the token p -/
def endS (s : tRow) (p : Nat) : PR := ckS inp n (!decide (tkK inp n (tkT inp n p) = 3)) 1 (tkT inp n p) (.inr (s, tkT inp n (tkT inp n p)))
def blkP (s : tRow) (x y : Int) : tRow := fU s (33 + (8 * y + x)).toNat 1
def blockS (s : tRow) (p : Nat) : PR :=
  nuS inp n 0 (s 0 - 1) (tkT inp n p) fun x => nuS inp n 0 (s 1 - 1) (tkT inp n (tkT inp n p)) fun y =>
  ckS inp n (decide (cI s x y = 1)) 4 (tkT inp n (tkT inp n p)) (endS inp n (blkP s x y) (tkT inp n (tkT inp n p)))
def sideS (p : Nat) : Int := if wrd inp n p wRight = true then 0 else if wrd inp n p wBelow = true then 1 else -1
def edgP (s : tRow) (x y d : Int) : tRow := fU s (edI x y d).toNat 1
def edgeS (s : tRow) (p : Nat) : PR :=
  nuS inp n 0 (s 0 - 1) (tkT inp n p) fun x => nuS inp n 0 (s 1 - 1) (tkT inp n (tkT inp n p)) fun y =>
  let q := tkT inp n (tkT inp n (tkT inp n p))
  let d := sideS inp n q
  ckS inp n (decide (d = -1)) 1 q (ckS inp n (!isEd s x y d) 3 q (ckS inp n (stB s x y d) 4 q (ckS inp n (decide (cI s x y = 1) || decide (cI s (bey0 x d) (bey1 y d) = 1)) 5 q (endS inp n (edgP s x y d) q))))
/-- the token p's letters put down as the name of player k -/
def namP (s : tRow) (k : Int) (p : Nat) : tRow := fun j => if (j : Int) = plI k 7 then ((tkT inp n p - tkF inp n p : Nat) : Int) else if plI k 8 ≤ j ∧ (j : Int) < plI k 8 + ((tkT inp n p - tkF inp n p : Nat) : Int) then inp (tkF inp n p + ((j : Int) - plI k 8).toNat) else s j
/-- it is the first player's name -/
def namQ (s : tRow) (p : Nat) : Bool := decide (ofS s 0 7 = ((tkT inp n p - tkF inp n p : Nat) : Int)) && al (fun k => decide (ofS s 0 (8 + (k : Int)) = inp (tkF inp n p + k))) (tkT inp n p - tkF inp n p)
/-- the supplies from the j-th on, then the straps -/
def supS (k : Int) : Nat → Nat → tRow → Nat → PR
  | 0, _, s, p => nuS inp n 0 9 p fun v => ckS inp n (!decide (tkK inp n (tkT inp n p) = 3)) 1 (tkT inp n p) (.inr (fU s (plI k 1).toNat v, tkT inp n (tkT inp n p)))
  | f + 1, j, s, p => nuS inp n 0 9 p fun v => supS k f (j + 1) (fU s (plI k (2 + (j : Int))).toNat v) (tkT inp n p)
def playerS (k : Int) (s : tRow) (p : Nat) : PR :=
  ckS inp n (!wrd inp n p wPlayer) 1 p (ckS inp n (!decide (tkK inp n (tkT inp n p) = 1) || decide (6 < tkT inp n (tkT inp n p) - tkF inp n (tkT inp n p))) 1 (tkT inp n p)
    (ckS inp n (decide (k = 1) && namQ inp n s (tkT inp n p)) 4 (tkT inp n p) (supS inp n k 5 0 (namP inp n s k (tkT inp n p)) (tkT inp n (tkT inp n p)))))
def shpS (p : Nat) : Int := if wrd inp n p wBar = true then 0 else if wrd inp n p wElbow = true then 1 else if wrd inp n p wRod = true then 2 else if wrd inp n p wSquare = true then 3 else if wrd inp n p wCorner = true then 4 else -1
def placeS (s : tRow) (p : Nat) : PR :=
  let p1 := tkT inp n p
  let p2 := tkT inp n p1
  let p3 := tkT inp n p2
  let p4 := tkT inp n p3
  let sh := shpS inp n p1
  ckS inp n (decide (sh = -1)) 1 p1 (nuS inp n 0 3 p2 fun r => nuS inp n 0 (s 0 - 1) p3 fun x => nuS inp n 0 (s 1 - 1) p4 fun y =>
    ckS inp n (!mayP s sh r x y) 6 p4 (endS inp n (plc s sh r x y) p4))
def strapS (s : tRow) (p : Nat) : PR :=
  nuS inp n 0 (s 0 - 1) (tkT inp n p) fun x => nuS inp n 0 (s 1 - 1) (tkT inp n (tkT inp n p)) fun y =>
  let q := tkT inp n (tkT inp n (tkT inp n p))
  let d := sideS inp n q
  ckS inp n (decide (d = -1)) 1 q (ckS inp n (!isEd s x y d) 3 q (ckS inp n (!mayF s x y d) 6 q (endS inp n (fas s x y d) q)))
def cmdS (s : tRow) (p : Nat) : PR :=
  if wrd inp n p wPlace = true then placeS inp n s p else if wrd inp n p wStrap = true then strapS inp n s p else
  ckS inp n (!wrd inp n p wPass) 1 p (ckS inp n (!mayS s) 6 p (endS inp n (pas s) p))
/-- all commands; their number -/
def cmdsS : Nat → tRow → Nat → Int → (Int × Nat) ⊕ (tRow × Int)
  | 0, s, _, c => .inr (s, c)
  | f + 1, s, p, c => if tkK inp n p = 0 then .inr (s, c) else match cmdS inp n s p with
    | .inl e => .inl e
    | .inr (s', q) => cmdsS f s' q (c + 1)
def blocksS : Nat → tRow → Nat → PR
  | 0, s, p => .inr (s, p)
  | f + 1, s, p => if wrd inp n p wBlock = true then match blockS inp n s p with
    | .inl e => .inl e
    | .inr (s', q) => blocksS f s' q
    else .inr (s, p)
def edgesS : Nat → tRow → Nat → PR
  | 0, s, p => .inr (s, p)
  | f + 1, s, p => if wrd inp n p wStrap = true then match edgeS inp n s p with
    | .inl e => .inl e
    | .inr (s', q) => edgesS f s' q
    else .inr (s, p)
def thS {α β : Type} (x : (Int × Nat) ⊕ α) (k : α → (Int × Nat) ⊕ β) : (Int × Nat) ⊕ β := match x with
  | .inl e => .inl e
  | .inr a => k a
/-- the head: the sizes; b: an empty row -/
def headS (b : tRow) : PR :=
  ckS inp n (!wrd inp n 0 wTrunk) 1 0 (nuS inp n 3 8 (tkT inp n 0) fun c => nuS inp n 3 8 (tkT inp n (tkT inp n 0)) fun r => endS inp n (fU (fU b 0 c) 1 r) (tkT inp n (tkT inp n 0)))
/-- the setup -/
def setS (b : tRow) : PR := thS (headS inp n b) fun a => thS (blocksS inp n (n + 1) a.1 a.2) fun b => thS (edgesS inp n (n + 1) b.1 b.2) fun c => thS (playerS inp n 0 c.1 c.2) fun d => playerS inp n 1 d.1 d.2
def loadS (b : tRow) : (Int × Nat) ⊕ (tRow × Int) := thS (setS inp n b) fun a => cmdsS inp n (n + 1) a.1 a.2 0
def playS (s : tRow) : (Int × Nat) ⊕ (tRow × Int) := cmdsS inp n (n + 1) s 0 0
end SP
