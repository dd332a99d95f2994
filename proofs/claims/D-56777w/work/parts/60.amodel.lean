/-! THE MODEL: what the component does, over lists and maps. Scalars by the component's field numbers (0: places told; 18: instructions fetched; 36, 37: lines there, lines asked for; 40-43: handling), arrays likewise (10, 22: bits; 50-54: code, d, a, b, n by place) -/
set_option maxRecDepth 100000
/-- an instruction under way: its ints by the field numbers of Flight (3: its number; 21: the number of its source), the returns ahead of it and behind it -/
abbrev FL : Type := (Nat → Int32) × List Int32 × List Int32
def FL0 : FL := (fun _ => 0, [], [])
abbrev AS : Type := (Nat → Int32) × (Nat → Nat → Int32) × List Int32 × List FL × List FL × List Int32 × List (Int32 × Int32) × List (Nat → Int32)
def aS (A : AS) : Nat → Int32 := A.1
def aA (A : AS) : Nat → Nat → Int32 := A.2.1
def aFree (A : AS) : List Int32 := A.2.2.1
def aLine (A : AS) : List FL := A.2.2.2.1
def aBuf (A : AS) : List FL := A.2.2.2.2.1
def aRet (A : AS) : List Int32 := A.2.2.2.2.2.1
def aAsk (A : AS) : List (Int32 × Int32) := A.2.2.2.2.2.2.1
def aEnd (A : AS) : List (Nat → Int32) := A.2.2.2.2.2.2.2
def wS (A : AS) (k : Nat) (v : Int32) : AS := (pu (aS A) k v, aA A, aFree A, aLine A, aBuf A, aRet A, aAsk A, aEnd A)
def wA (A : AS) (k j : Nat) (v : Int32) : AS := (aS A, u2 (aA A) k j v, aFree A, aLine A, aBuf A, aRet A, aAsk A, aEnd A)
def wFree (A : AS) (l : List Int32) : AS := (aS A, aA A, l, aLine A, aBuf A, aRet A, aAsk A, aEnd A)
def wLine (A : AS) (l : List FL) : AS := (aS A, aA A, aFree A, l, aBuf A, aRet A, aAsk A, aEnd A)
def wBuf (A : AS) (l : List FL) : AS := (aS A, aA A, aFree A, aLine A, l, aRet A, aAsk A, aEnd A)
def wRet (A : AS) (l : List Int32) : AS := (aS A, aA A, aFree A, aLine A, aBuf A, l, aAsk A, aEnd A)
def wAsk (A : AS) (l : List (Int32 × Int32)) : AS := (aS A, aA A, aFree A, aLine A, aBuf A, aRet A, l, aEnd A)
def wEnd (A : AS) (l : List (Nat → Int32)) : AS := (aS A, aA A, aFree A, aLine A, aBuf A, aRet A, aAsk A, l)
def uF (f : FL) (k : Nat) (v : Int32) : FL := (pu f.1 k v, f.2)
def gB (A : AS) (i : Nat) : FL := (aBuf A).getD i FL0
def upB (A : AS) (i : Nat) (f : FL) : AS := wBuf A ((aBuf A).set i f)
/-! kinds -/
abbrev inR (v l h : Int32) : Prop := l ≤ v ∧ v ≤ h
abbrev isAd (v : Int32) : Prop := inR v 0 63
abbrev cRes (c : Int32) : Prop := inR c 1 9 ∨ c = 15
abbrev cSto (c : Int32) : Prop := c = 10 ∨ c = 11
abbrev cMem (c : Int32) : Prop := c = 9 ∨ cSto c
abbrev cCnd (c : Int32) : Prop := c = 12 ∨ c = 13
abbrev cInd (c : Int32) : Prop := c = 16 ∨ c = 17
abbrev cQue (c : Int32) : Prop := inR c 1 13 ∨ cInd c
abbrev cAlo (c : Int32) : Prop := c = 19 ∨ c = 21
abbrev cNdA (c : Int32) : Prop := cQue c ∧ c ≠ 1
abbrev cNdB (c : Int32) : Prop := cNdA c ∧ ¬ cMem c ∧ ¬ cInd c
def iK (A : AS) (k : Nat) (f : FL) : Int32 := aA A (50 + k) (ix (f.1 1))
abbrev cd (A : AS) (f : FL) : Int32 := iK A 0 f
def val (A : AS) (r : Int32) : Int32 := aA A 9 (ix r)
abbrev rdy (A : AS) (r : Int32) : Prop := aA A 10 (ix r) = 1
def reck (c n x y : Int32) : Int32 := if c = 1 then n else if c = 2 then x + y else if c = 3 then x - y else if c = 4 then x * y else if c = 5 then x / y else if c = 6 then x &&& y else if c = 7 then x ^^^ y else if x < y then 1 else 0
abbrev fulf (c x y : Int32) : Prop := (c = 12 ∧ x = y) ∨ (c ≠ 12 ∧ x < y)
def stod (c w y : Int32) : Int32 := if c = 10 then y else (w &&& (-65536)) ||| (y &&& 65535)
def aFor (g : Nat → AS → AS) : Nat → Nat → AS → AS
  | 0, _, A => A
  | n + 1, i, A => aFor g n (i + 1) (g i A)
/-! answers -/
def aCome1 (l : Int32) (i : Nat) (A : AS) : AS := if (gB A i).1 14 = 109 ∧ (gB A i).1 20 = l then upB A i (uF (uF (gB A i) 14 120) 15 (aS A 26)) else A
def aCome (l : Int32) (A : AS) : AS := aFor (aCome1 l) (aBuf A).length 0 A
def gQ (A : AS) (i : Nat) : Int32 × Int32 := (aAsk A).getD i (0, 0)
def aAnsLoop : Nat → Nat → AS → AS
  | 0, _, A => A
  | n + 1, i, A => if (gQ A i).2 = aS A 26 then aAnsLoop n i (aCome (gQ A i).1 (wA (wAsk A ((aAsk A).eraseIdx i)) 24 (ix (irm (gQ A i).1 4)) (gQ A i).1)) else aAnsLoop n (i + 1) A
def aAnswer (A : AS) : AS := aAnsLoop (aAsk A).length 0 A
/-! throwing away -/
def aUndo (f : FL) (A : AS) : AS := if f.1 12 = -1 then wS A 34 (aS A 34 + 1) else wFree (wA (wS A 34 (aS A 34 + 1)) 11 (ix (iK A 1 f)) (f.1 13)) (aFree A ++ [f.1 12])
def aThrLoop : Nat → AS → AS
  | 0, A => A
  | n + 1, A => aThrLoop n (aUndo (gB A ((aBuf A).length - 1)) (wBuf A (aBuf A).dropLast))
def aThrow (i : Nat) (A : AS) : AS := aThrLoop ((aBuf A).length - i) (wLine A [])
def aThrowAll (A : AS) : AS := wRet (aThrow 0 A) []
/-! endings -/
abbrev aEarly (A : AS) (s f : FL) : Prop := s.1 3 < f.1 3 ∧ cd A f = 9 ∧ f.1 8 ≠ -1 ∧ f.1 16 = 0 ∧ f.1 17 = s.1 17 ∧ (f.1 21 = -1 ∨ f.1 21 < s.1 3)
def aFirstL (A : AS) (s : FL) : Nat → Nat → Option Nat
  | 0, _ => none
  | n + 1, i => if aEarly A s (gB A i) then some i else aFirstL A s n (i + 1)
def aFirst (A : AS) (s : FL) : Option Nat := aFirstL A s (aBuf A).length 0
def aEndStore (i : Nat) (A : AS) : AS :=
  let s := gB A i
  if ¬ isAd (s.1 17) then upB A i (uF s 16 2) else
  match aFirst A s with
  | none => A
  | some j => let l := gB A j; wS (aThrow j (wRet (wA (wS A 33 (aS A 33 + 1)) 22 (ix (irm (l.1 1) 16)) 1) l.2.1)) 17 (l.1 1)
def aFound (A : AS) (f : FL) : FL :=
  if cInd (cd A f) then uF (uF f 16 (if isAd (val A (f.1 10)) then 0 else 3)) 19 (val A (f.1 10)) else if fulf (cd A f) (val A (f.1 10)) (val A (f.1 11)) then uF f 19 (iK A 4 f) else f
def aEndGo (i : Nat) (A : AS) : AS :=
  let f := aFound A (gB A i)
  let B := upB A i f
  if f.1 16 = 0 ∧ f.1 19 ≠ f.1 6 then wS (aThrow (i + 1) (wRet (wS B 32 (aS B 32 + 1)) f.2.2)) 17 (f.1 19) else B
def aResult (A : AS) (f : FL) : FL :=
  if cd A f = 9 then (if isAd (f.1 17) then (if f.1 21 = -1 then uF (uF f 16 0) 18 (aA A 3 (ix (f.1 17))) else uF f 16 0) else uF f 16 2)
  else if cd A f = 5 ∧ val A (f.1 11) = 0 then uF f 16 1 else uF f 18 (reck (cd A f) (iK A 4 f) (val A (f.1 10)) (val A (f.1 11)))
def aEndOne (i : Nat) (A : AS) : AS :=
  let f := gB A i
  if cRes (cd A f) then upB A i (uF (aResult A f) 14 98) else
  let B := upB A i (uF (uF f 14 101) 9 (aS A 26))
  if cSto (cd A f) then aEndStore i B else aEndGo i B
def aEnd1 (i : Nat) (A : AS) : AS := if i < (aBuf A).length ∧ (gB A i).1 14 = 120 ∧ (gB A i).1 15 = aS A 26 then aEndOne i A else A
def aWrite1 (A : AS) (i : Nat) : AS :=
  let f := gB A i
  upB (wA (wA A 9 (ix (f.1 12)) (if f.1 16 = 0 then f.1 18 else 0)) 10 (ix (f.1 12)) 1) i (uF (uF f 14 101) 9 (aS A 26))
def aWrite : Nat → Nat → Nat → AS → AS
  | 0, _, _, A => A
  | n + 1, left, i, A => if (gB A i).1 14 = 98 ∧ left ≠ 0 then aWrite n (left - 1) (i + 1) (aWrite1 A i) else aWrite n left (i + 1) A
def aEnds (A : AS) : AS := aFor aEnd1 (aBuf A).length 0 A
def aEndAll (A : AS) : AS := let B := aEnds A; aWrite (aBuf B).length 2 0 B
/-! retiring -/
def aLose (k : Nat) (A : AS) : AS := wA A 31 k (aA A 31 k + 1)
def aTrap (A : AS) (f : FL) : Int32 := if cd A f = 20 then 4 else if cd A f = 21 ∧ aS A 42 = 0 then 5 else f.1 16
abbrev aLacks (A : AS) (f : FL) : Prop := cSto (cd A f) ∧ f.1 16 = 0 ∧ ¬ rdy A (f.1 11)
def aEndOf (k pl c : Int32) (f : FL) : Nat → Int32 := fun j => if j = 0 then k else if j = 1 then pl else if j = 2 then c else if j = 3 then 1 else if j = 4 then f.1 2 else if j = 5 then f.1 7 else if j = 6 then f.1 8 else f.1 9
def aEndIn (pl c : Int32) : Nat → Int32 := fun j => if j = 0 then 9 else if j = 1 then pl else if j = 2 then c else 0
def aLearn (f : FL) (A : AS) : AS :=
  let at_ := ix (irm (f.1 1) 16)
  if cCnd (cd A f) then wA A 20 at_ (if fulf (cd A f) (val A (f.1 10)) (val A (f.1 11)) then imn 3 (aA A 20 at_ + 1) else imx 0 (aA A 20 at_ - 1))
  else if cd A f = 17 then wA A 21 (ix (irm (f.1 1) 8)) (f.1 19) else A
def aRetire (A0 : AS) : AS :=
  let f := gB A0 0
  let A := wEnd (wBuf A0 (aBuf A0).tail) (aEnd A0 ++ [aEndOf 0 (f.1 1) (aS A0 26) f])
  let d := ix (iK A 1 f)
  let A := if f.1 12 = -1 then A else wA (wFree A (aFree A ++ [aA A 12 d])) 12 d (f.1 12)
  let A := if cSto (cd A f) then wA A 3 (ix (f.1 17)) (stod (cd A f) (aA A 3 (ix (f.1 17))) (val A (f.1 11))) else A
  let A := wS (aLearn f A) 27 (f.1 19)
  let A := if cd A f = 21 then wS (wS (wS A 42 0) 27 (aS A 43)) 17 (aS A 43) else A
  wS A 29 (if cd A f = 18 then 1 else 0)
def aTakeInt (A0 : AS) : AS :=
  let n := aS A0 27
  let A := aThrowAll (wEnd (wS A0 28 0) (aEnd A0 ++ [aEndIn n (aS A0 26)]))
  let A := wS (wS A 42 1) 43 n
  wS (wS A 27 (aS A 41)) 17 (aS A 41)
def aTakeTrap (t : Int32) (A0 : AS) : AS :=
  let f := gB A0 0
  let A := aThrowAll (wEnd A0 (aEnd A0 ++ [aEndOf t (f.1 1) (aS A0 26) f]))
  let A := if aS A 42 = 1 ∨ aS A 40 = -1 then A else wS (wS A 42 1) 43 (f.1 1 + 1)
  let nx := if aS A0 42 = 1 ∨ aS A0 40 = -1 then -1 else aS A0 40
  wS (wS (wS A 27 nx) 29 (if nx = -1 then 1 else 0)) 17 nx
def aWhy (A : AS) : Nat := if aBuf A = [] then 2 else
  let s := (gB A 0).1 14
  if s = 101 then 7 else if s = 113 then 3 else if s = 120 then 4 else if s = 109 then 5 else 6
/-- how many are retired (n: still may), whether it went on to the end without a trap -/
def aRetLoop : Nat → Nat → AS → AS × Nat × Bool
  | 0, r, A => (A, r, true)
  | n + 1, r, A =>
    if aBuf A ≠ [] ∧ (gB A 0).1 14 = 101 ∧ ¬ aLacks A (gB A 0) then
      (if aTrap A (gB A 0) = 0 then aRetLoop n (r + 1) (aRetire A) else (aTakeTrap (aTrap A (gB A 0)) A, r, false))
    else (A, r, true)
def aRetireAll (A : AS) : AS :=
  if aS A 28 = 1 ∧ aS A 42 = 0 ∧ aS A 41 ≠ -1 then aLose 0 (aTakeInt A) else
  let q := aRetLoop (ix (aS A 5)) 0 A
  if q.2.1 = 0 then aLose (if q.2.2 then aWhy q.1 else 1) q.1 else q.1
/-! beginnings -/
abbrev aBusy (A : AS) : Prop := ∃ f ∈ aBuf A, f.1 14 = 120 ∧ cd A f = 5
abbrev aHasOps (A : AS) (f : FL) : Prop := (cNdA (cd A f) → rdy A (f.1 10)) ∧ (cNdB (cd A f) → rdy A (f.1 11))
abbrev UN : Type := Nat × Nat × Nat × Nat
abbrev uHas (u : UN) (c : Int32) : Prop := if c = 4 then u.2.1 ≠ 0 else if c = 5 then u.2.2.1 ≠ 0 else if inR c 9 11 then u.2.2.2 ≠ 0 else u.1 ≠ 0
def uUse (u : UN) (c : Int32) : UN := if c = 4 then (u.1, u.2.1 - 1, u.2.2) else if c = 5 then (u.1, u.2.1, u.2.2.1 - 1, u.2.2.2) else if inR c 9 11 then (u.1, u.2.1, u.2.2.1, u.2.2.2 - 1) else (u.1 - 1, u.2)
def fBeg (f : FL) (c dl : Int32) : FL := uF (uF (uF f 14 120) 8 c) 15 (c + dl)
def fWait (f : FL) (l c : Int32) : FL := uF (uF (uF f 14 109) 8 c) 20 l
/-- the stores that are older than a load: whether all have ended, and the last that has its address -/
def aOld (A : AS) (l : FL) : List FL := (aBuf A).filter fun f => decide (cSto (cd A f) ∧ f.1 3 < l.1 3)
abbrev aSure (A : AS) (l : FL) : Prop := ∀ f ∈ aOld A l, f.1 14 = 101
def aSrc (A : AS) (l : FL) : Option FL := ((aOld A l).filter fun f => decide (f.1 14 = 101 ∧ f.1 16 = 0 ∧ f.1 17 = l.1 17)).getLast?
def aBeginLoad (i : Nat) (A : AS) : AS × Bool :=
  let l := gB A i
  if ¬ aSure A l ∧ aA A 22 (ix (irm (l.1 1) 16)) = 1 then (A, false) else
  match aSrc A l with
  | some s => if cd A s = 11 ∨ ¬ rdy A (s.1 11) then (A, false) else
      (upB (wS A 35 (aS A 35 + 1)) i (fBeg (uF (uF l 21 (s.1 3)) 18 (val A (s.1 11))) (aS A 26) 1), true)
  | none =>
    let ln := l.1 17 / 4
    if aA A 24 (ix (irm ln 4)) = ln then (upB (wS A 36 (aS A 36 + 1)) i (fBeg l (aS A 26) 2), true)
    else if ∃ q ∈ aAsk A, q.1 = ln then (upB A i (fWait l ln (aS A 26)), true)
    else if (aAsk A).length = 2 then (A, false)
    else (upB (wAsk (wS A 37 (aS A 37 + 1)) (aAsk A ++ [(ln, aS A 26 + aA A 23 (ix ln))])) i (fWait l ln (aS A 26)), true)
def aBegin (i : Nat) (A : AS) : AS × Bool :=
  let f := gB A i
  let c := cd A f
  let f := if cMem c then uF f 17 (val A (f.1 10) + iK A 4 f) else f
  let B := upB A i f
  if c = 9 ∧ isAd (f.1 17) then aBeginLoad i B else (upB B i (fBeg f (aS A 26) (if c = 4 then 3 else if c = 5 then 6 else 1)), true)
def aBegLoop : Nat → Nat → UN → AS → AS
  | 0, _, _, A => A
  | n + 1, i, u, A =>
    let f := gB A i
    if f.1 14 = 113 ∧ uHas u (cd A f) ∧ aHasOps A f then
      (let q := aBegin i A; aBegLoop n (i + 1) (if q.2 then uUse u (cd A f) else u) q.1)
    else aBegLoop n (i + 1) u A
def aBeginAll (A : AS) : AS := aBegLoop (aBuf A).length 0 (2, 1, if aBusy A then 0 else 1, 1) A
/-! renaming -/
def aQueued (A : AS) : Nat := ((aBuf A).filter fun f => decide (f.1 14 = 113)).length
abbrev aCanRen (A : AS) (f : FL) : Prop :=
  (aBuf A).length ≠ ix (aS A 6) ∧ ¬ (cRes (cd A f) ∧ aFree A = []) ∧ ¬ (cQue (cd A f) ∧ aQueued A = ix (aS A 7)) ∧ (aBuf A = [] ∨ (¬ cAlo (cd A f) ∧ ¬ cAlo (cd A (gB A 0))))
def aRename (f0 : FL) (A0 : AS) : AS :=
  let c := cd A0 f0
  let d := ix (iK A0 1 f0)
  let f := uF (uF (uF f0 7 (aS A0 26)) 10 (aA A0 11 (ix (iK A0 2 f0)))) 11 (aA A0 11 (ix (iK A0 3 f0)))
  let D := (aFree A0).headD 0
  let f := if cRes c then uF (uF f 13 (aA A0 11 d)) 12 D else f
  let A := if cRes c then wA (wA (wFree A0 (aFree A0).tail) 10 (ix D) 0) 11 d D else A0
  if cQue c then wBuf A (aBuf A ++ [uF f 14 113]) else
  let f := uF (uF (uF f 14 101) 9 (aS A0 26)) 19 (f0.1 6)
  let A := wBuf A (aBuf A ++ [f])
  if c = 15 then wA (wA A 9 (ix D) (f0.1 1 + 1)) 10 (ix D) 1 else A
def aRenLoop : Nat → AS → AS
  | 0, A => A
  | n + 1, A => match aLine A with
    | [] => A
    | f :: t => if aCanRen A f then aRenLoop n (aRename f (wLine A t)) else A
def aRenameAll (A : AS) : AS := aRenLoop (ix (aS A 5)) A
/-! fetching -/
def aPush (x : Int32) (l : List Int32) : List Int32 := (if l.length = 4 then l.tail else l) ++ [x]
/-- where an instruction is believed to go, and the returns behind it -/
def aGuess (A : AS) (c n pl : Int32) : Int32 × List Int32 :=
  if cCnd c then (if 2 ≤ aA A 20 (ix (irm pl 16)) then n else pl + 1, aRet A)
  else if c = 14 then (n, aRet A)
  else if c = 15 then (n, aPush (pl + 1) (aRet A))
  else if c = 16 then (if aRet A = [] then (pl + 1, []) else ((aRet A).getLastD 0, (aRet A).dropLast))
  else if c = 17 then (if aA A 21 (ix (irm pl 8)) = -1 then pl + 1 else aA A 21 (ix (irm pl 8)), aRet A)
  else (pl + 1, aRet A)
def fNew (pl cy num g : Int32) (b t : List Int32) : FL := (fun k => if k = 1 then pl else if k = 2 then cy else if k = 3 then num else if k = 6 then g else if k = 7 ∨ k = 8 ∨ k = 9 ∨ k = 12 ∨ k = 13 ∨ k = 20 ∨ k = 21 then -1 else if k = 14 then 102 else if k = 19 then pl + 1 else 0, b, t)
def aFetch1 (A : AS) : AS × Bool :=
  let pl := aS A 17
  let c := aA A 50 (ix pl)
  let q := aGuess A c (aA A 54 (ix pl)) pl
  let f := fNew pl (aS A 26) (aS A 18) q.1 (aRet A) q.2
  let B := wLine (wRet (wS A 18 (aS A 18 + 1)) q.2) (aLine A ++ [f])
  (wS B 17 (if c = 18 ∨ c = 21 then -1 else q.1), decide (q.1 = pl + 1 ∧ ¬ (c = 18 ∨ c = 21)))
def aFetLoop : Nat → AS → AS
  | 0, A => A
  | n + 1, A => if (aLine A).length < 2 * ix (aS A 5) ∧ 0 ≤ aS A 17 ∧ aS A 17 < aS A 0 then (if (aFetch1 A).2 then aFetLoop n (aFetch1 A).1 else (aFetch1 A).1) else A
def aFetchAll (A : AS) : AS := aFetLoop (ix (aS A 5)) A
def aPass (A : AS) : AS := aFetchAll (aRenameAll (aBeginAll (aRetireAll (aEndAll (aAnswer (wS A 26 (aS A 26 + 1)))))))
