/-! DEPS: iv -/
/-! S: the mathematical system, over the one row g : Int → Int of the reference (place 11138: how many are held now). Λ: the law, by letter and facts: none, or what its first clause that holds tells -/
abbrev Row : Type := Int → Int
abbrev Law : Type := Int → (Int → Int) → Option Int32
def st (g : Row) (e v : Int) : Row := fun x => if x = e then v else g x
abbrev the (g : Row) (n w : Int) : Int := g (244 * n + w)
abbrev lastA (g : Row) (n : Int) : Int := the g n 4 + the g n 8
abbrev lpA (g : Row) (n i : Int) : Int := 244 * n + 52 + 4 * (i - the g n 4 - 1)
abbrev hasEnt (g : Row) (n i : Int) : Prop := the g n 4 < i ∧ i ≤ lastA g n
def termA (g : Row) (n i : Int) : Int := if i = the g n 4 then the g n 5 else g (lpA g n i)
/-! configurations -/
def cfgF (g : Row) (n : Int) : Nat → Int → Int
  | 0, i => i
  | f + 1, i => if i ≤ the g n 4 then the g n 4 else if g (lpA g n i + 1) = 1 then i else cfgF g n f (i - 1)
/-- the index of the last configuration up to one; the snapshot's if there is none -/
def cfgA (g : Row) (n up : Int) : Int := cfgF g n (up - the g n 4).toNat up
def oldA (g : Row) (n : Int) : Int := if cfgA g n (lastA g n) = the g n 4 then the g n 6 else g (lpA g n (cfgA g n (lastA g n)) + 2)
def newA (g : Row) (n : Int) : Int := if cfgA g n (lastA g n) = the g n 4 then the g n 7 else g (lpA g n (cfgA g n (lastA g n)) + 3)
def membA (g : Row) (n : Int) : Int := orI (oldA g n) (newA g n)
abbrev cfgHeld (g : Row) (n : Int) : Prop := cfgA g n (lastA g n) ≤ the g n 9
abbrev mostA (g : Row) (n s : Int) : Prop := bitsI (oldA g n) < 2 * bitsI (andI s (oldA g n)) ∧ (newA g n = 0 ∨ bitsI (newA g n) < 2 * bitsI (andI s (newA g n)))
/-! logs -/
def goesG (g : Row) (n i : Int) : Row := fun x =>
  if x = 244 * n + 4 then i else if x = 244 * n + 8 then max 0 (the g n 8 - (i - the g n 4))
  else if 244 * n + 52 ≤ x ∧ x < 244 * n + 52 + 4 * max 0 (the g n 8 - (i - the g n 4)) then g (x + 4 * (i - the g n 4)) else g x
def compC (g : Row) (n : Int) : Row :=
  if cfgA g n (the g n 9) = the g n 4 then g else st (st g (244 * n + 6) (g (lpA g n (cfgA g n (the g n 9)) + 2))) (244 * n + 7) (g (lpA g n (cfgA g n (the g n 9)) + 3))
def compG (g : Row) (n : Int) : Row := fun x =>
  if 244 * n + 23 ≤ x ∧ x < 244 * n + 31 then g (x - 8) else st (goesG (compC g n) n (the g n 9)) (244 * n + 5) (termA g n (the g n 9)) x
def lay1 (g : Row) (n : Int) : Row := if the g n 8 = 48 then compG g n else g
abbrev layOk (g : Row) (n : Int) : Prop := ¬ the (lay1 g n) n 8 = 48 ∧ ¬ lastA (lay1 g n) n = 999
def lay0 (g : Row) (n t k a b : Int) : Row := fun x =>
  if x = 244 * n + 8 then the g n 8 + 1 else if x = 244 * n + 52 + 4 * the g n 8 then t else if x = 244 * n + 53 + 4 * the g n 8 then k
  else if x = 244 * n + 54 + 4 * the g n 8 then a else if x = 244 * n + 55 + 4 * the g n 8 then b else g x
def layG (g : Row) (n t k a b : Int) : Row := if layOk g n then lay0 (lay1 g n) n t k a b else lay1 g n
/-! draws, timers, messages -/
def drawG (g : Row) : Row := st g 11132 ((25173 * g 11132 + 13849) % 65536)
def factsA (g : Row) (f t k : Int) : Int → Int := fun w =>
  if w = 0 then f else if w = 1 then t else if w = 2 then k else if w = 3 then the g f 1 % 100 else if w = 4 then g 11133 else if w = 5 then g 11131 % 100 else g 11132 % 10
def tellA (Λ : Law) (c low high without : Int) (F : Int → Int) : Int := match Λ c F with
  | none => without
  | some v => if v.toInt < low then low else if high < v.toInt then high else v.toInt
def timerG (Λ : Law) (g : Row) (n : Int) : Row := st (drawG g) (244 * n + 10) (tellA Λ 101 4 40 8 (factsA (drawG g) n n 6) + drawG g 11132 % 10)
def loseG (g : Row) : Row := st g 11137 (min 99999 (g 11137 + 1))
abbrev goneA (Λ : Law) (g : Row) (m : Int → Int) : Prop :=
  (Λ 120 (factsA g (m 0) (m 1) (m 2))).isSome = true ∨ g 11132 % 10 < tellA Λ 108 0 10 0 (factsA g (m 0) (m 1) (m 2)) ∨ g 11133 = 160
/-- a message is put behind the others -/
def mailG (g : Row) (m : Int → Int) (due : Int) : Row := fun x =>
  if x = 11133 then g 11133 + 1 else if 1708 + 27 * g 11133 ≤ x ∧ x < 1735 + 27 * g 11133 then (if x - (1708 + 27 * g 11133) = 4 then due else m (x - (1708 + 27 * g 11133))) else g x
noncomputable def postG (Λ : Law) (g : Row) (m : Int → Int) : Row :=
  if goneA Λ (drawG g) m then loseG (drawG g) else mailG (drawG g) m (g 11131 + 1 + tellA Λ 100 0 9 0 (factsA (drawG g) (m 0) (m 1) (m 2)))
def mail0 (g : Row) (f t k : Int) : Int → Int := fun w => if w = 0 then f else if w = 1 then t else if w = 2 then k else if w = 3 then the g f 1 else 0
/-- an answer to the message mi -/
def ansM (g : Row) (mi : Int → Int) (k a b r : Int) : Int → Int := fun w => if w = 6 then a else if w = 7 then b else if w = 10 then r else mail0 g (mi 1) (mi 0) k w
noncomputable def ansG (Λ : Law) (g : Row) (mi : Int → Int) (k a b r : Int) : Row := postG Λ g (ansM g mi k a b r)
def snapM (g : Row) (n t : Int) : Int → Int := fun w =>
  if w = 6 then the g n 4 else if w = 7 then the g n 5 else if w = 8 then the g n 6 else if w = 9 then the g n 7 else if w = 10 then the g n 13
  else if 11 ≤ w ∧ w < 19 then the g n (12 + w) else mail0 g n t 4 w
def manyA (g : Row) (n t : Int) : Int := max 0 (min 4 (lastA g n - the g n (31 + t) + 1))
def entsM (g : Row) (n t : Int) : Int → Int := fun w =>
  if w = 5 then manyA g n t else if w = 6 then the g n (31 + t) - 1 else if w = 7 then termA g n (the g n (31 + t) - 1) else if w = 8 then the g n 9 else if w = 10 then the g n 13
  else if 11 ≤ w ∧ w < 11 + 4 * manyA g n t then g (lpA g n (the g n (31 + t)) + (w - 11)) else mail0 g n t 2 w
noncomputable def sendG (Λ : Law) (g : Row) (n t : Int) : Row := postG Λ g (if the g n (31 + t) ≤ the g n 4 then snapM g n t else entsM g n t)
noncomputable def sendF (Λ : Law) (n : Int) : Nat → Row → Int → Row
  | 0, g, _ => g
  | f + 1, g, t => sendF Λ n f (if t ≠ n ∧ hasI (membA g n) t then sendG Λ g n t else g) (t + 1)
noncomputable def sendAllG (Λ : Law) (g : Row) (n : Int) : Row := sendF Λ n 7 g 0
/-! following, what is held -/
def readsG (g : Row) (n : Int) : Row := fun x => if 11032 ≤ x ∧ (x - 11032) % 6 = 0 ∧ (x - 11032) / 6 < g 11135 ∧ g (x - 4) = n ∧ g x = 0 then 2 else g x
def followG (g : Row) (n w : Int) : Row := st (st (if the g n 3 = 2 then readsG g n else g) (244 * n + 3) 0) (244 * n + 11) w
def breakG (g : Row) : Row := st g 11136 (g 11136 + 1)
def keyG (g : Row) (n i : Int) : Row := if g (lpA g n i + 1) = 0 then st g (244 * n + 15 + g (lpA g n i + 2)) (g (lpA g n i + 3)) else g
abbrev sameA (g : Row) (p q : Int) : Prop := g p = g q ∧ g (p + 1) = g (q + 1) ∧ g (p + 2) = g (q + 2) ∧ g (p + 3) = g (q + 3)
/-- an entry is seen held: its key, the row of what is held, how many -/
def seenG (g : Row) (n i : Int) : Row :=
  if keyG g n i (6028 + 4 * i) = 0 then
    (fun x => if 6028 + 4 * i ≤ x ∧ x < 6032 + 4 * i then keyG g n i (lpA g n i + (x - (6028 + 4 * i))) else if x = 11134 then max (keyG g n i 11134) i else if x = 11138 then keyG g n i 11138 + 1 else keyG g n i x)
  else if sameA (keyG g n i) (6028 + 4 * i) (lpA g n i) then keyG g n i else breakG (keyG g n i)
def growF (n : Int) : Nat → Row → Int → Row
  | 0, g, _ => g
  | f + 1, g, i => growF n f (seenG g n i) (i + 1)
/-- the commit of a node grows up to an index -/
def growG (g : Row) (n t : Int) : Row := st (growF n (t - the g n 9).toNat g (the g n 9 + 1)) (244 * n + 9) (max (the g n 9) t)
def whoF (g : Row) (n w i : Int) : Nat → Int → Int → Int
  | 0, s, _ => s
  | f + 1, s, k => whoF g n w i f (if i ≤ the g n (w + k) then orI s (bitI k) else s) (k + 1)
def whoMatchA (g : Row) (n i : Int) : Int := whoF g n 38 i 7 (bitI n) 0
def whoHeardA (g : Row) (n r : Int) : Int := whoF g n 45 r 7 (bitI n) 0
def topF (g : Row) (n : Int) : Nat → Int → Int
  | 0, _ => the g n 9
  | f + 1, i => if i ≤ the g n 9 then the g n 9 else if termA g n i = the g n 1 ∧ mostA g n (whoMatchA g n i) then i else topF g n f (i - 1)
def topA (g : Row) (n : Int) : Int := topF g n (lastA g n - the g n 9).toNat (lastA g n)
noncomputable def holdF (Λ : Law) (n : Int) : Nat → Row → Row
  | 0, g => g
  | f + 1, g =>
    let h := growG g n (topA g n)
    if newA h n ≠ 0 then
      if cfgHeld h n then
        if layOk h n then holdF Λ n f (sendAllG Λ (st (layG h n (the h n 1) 1 (newA h n) 0) (244 * n + 38 + n) (lastA (layG h n (the h n 1) 1 (newA h n) 0) n)) n)
        else layG h n (the h n 1) 1 (newA h n) 0
      else h
    else if ¬ cfgHeld h n then h else if hasI (membA h n) n then h else timerG Λ (followG h n (-1)) n
noncomputable def holdG (Λ : Law) (g : Row) (n : Int) : Row := holdF Λ n 3 g
/-- what follows when a leader has laid an entry -/
noncomputable def laidG (Λ : Law) (g : Row) (n : Int) : Row := holdG Λ (sendAllG Λ (st g (244 * n + 38 + n) (lastA g n)) n) n
/-! standing, leading -/
def ledG (g : Row) (n : Int) : Row :=
  let t := the g n 1
  if g (10028 + t) = 0 then st g (10028 + t) (n + 1) else if g (10028 + t) = n + 1 then g else breakG g
def crownG (g : Row) (n : Int) : Row := fun x =>
  if x = 244 * n + 3 then 2 else if x = 244 * n + 11 then n else if x = 244 * n + 14 then 0 else if x = 244 * n + 13 then 1
  else if 244 * n + 31 ≤ x ∧ x < 244 * n + 38 then lastA g n + 1 else if 244 * n + 38 ≤ x ∧ x < 244 * n + 52 then 0 else g x
noncomputable def leadG (Λ : Law) (g : Row) (n : Int) : Row := laidG Λ (layG (crownG (ledG g n) n) n (the g n 1) 2 0 0) n
def askM (g : Row) (n t : Int) : Int → Int := fun w => if w = 6 then lastA g n else if w = 7 then termA g n (lastA g n) else mail0 g n t 0 w
noncomputable def askF (Λ : Law) (n : Int) : Nat → Row → Int → Row
  | 0, g, _ => g
  | f + 1, g, t => askF Λ n f (if t ≠ n ∧ hasI (membA g n) t then postG Λ g (askM g n t) else g) (t + 1)
def standV (g : Row) (n : Int) : Row := st (st (st (st (st g (244 * n + 1) (the g n 1 + 1)) (244 * n + 3) 1) (244 * n + 2) n) (244 * n + 12) (bitI n)) (244 * n + 11) (-1)
noncomputable def standG (Λ : Law) (g : Row) (n : Int) : Row :=
  if ¬ hasI (membA g n) n ∨ the g n 1 = 999 then timerG Λ g n
  else
    let h := timerG Λ (standV g n) n
    if mostA h n (the h n 12) then leadG Λ h n else askF Λ n 7 h 0
/-! messages handed over: mi is the message -/
abbrev noLess (g : Row) (n l t : Int) : Prop := termA g n (lastA g n) < t ∨ (t = termA g n (lastA g n) ∧ lastA g n ≤ l)
noncomputable def voteG (Λ : Law) (g : Row) (mi : Int → Int) (n : Int) : Row :=
  if mi 3 = the g n 1 ∧ (the g n 2 = -1 ∨ the g n 2 = mi 0) ∧ noLess g n (mi 6) (mi 7) then ansG Λ (timerG Λ (st g (244 * n + 2) (mi 0)) n) mi 1 1 0 0 else ansG Λ g mi 1 0 0 0
noncomputable def countG (Λ : Law) (g : Row) (mi : Int → Int) (n : Int) : Row :=
  if the g n 3 ≠ 1 ∨ mi 3 ≠ the g n 1 ∨ mi 6 ≠ 1 then g
  else
    let h := st g (244 * n + 12) (orI (the g n 12) (bitI (mi 0)))
    if mostA h n (the h n 12) then leadG Λ h n else h
def firstF (g : Row) (n i : Int) : Nat → Int → Int
  | 0, k => k
  | f + 1, k => if the g n 4 < k - 1 ∧ termA g n (k - 1) = termA g n i then firstF g n i f (k - 1) else k
/-- the first index from which on up to one all entries have the same term -/
def firstA (g : Row) (n i : Int) : Int := max 1 (firstF g n i (i - the g n 4).toNat i)
def cutG (g : Row) (n i : Int) : Row :=
  if lastA g n < i then g else if i ≤ the g n 9 then st (breakG (st g (244 * n + 8) (i - the g n 4 - 1))) (244 * n + 9) (i - 1) else st g (244 * n + 8) (i - the g n 4 - 1)
abbrev hasAs (g : Row) (n i t : Int) : Prop := i ≤ the g n 4 ∨ (i ≤ lastA g n ∧ termA g n i = t)
abbrev asOk (g : Row) (mi : Int → Int) (n i a : Int) : Prop := hasAs g n i (mi a) ∨ layOk (cutG g n i) n
def asG (g : Row) (mi : Int → Int) (n i a : Int) : Row := if hasAs g n i (mi a) then g else layG (cutG g n i) n (mi a) (mi (a + 1)) (mi (a + 2)) (mi (a + 3))
/-- entries told are laid from an index on: how far -/
def reachF (mi : Int → Int) (n : Int) : Nat → Row → Int → Row × Int
  | 0, g, r => (g, r)
  | f + 1, g, r => if r < mi 6 + mi 5 then (if asOk g mi n (r + 1) (11 + 4 * (r - mi 6)) then reachF mi n f (asG g mi n (r + 1) (11 + 4 * (r - mi 6))) (r + 1) else (asG g mi n (r + 1) (11 + 4 * (r - mi 6)), r)) else (g, r)
noncomputable def entriesG (Λ : Law) (g : Row) (mi : Int → Int) (n : Int) : Row :=
  if mi 3 < the g n 1 then ansG Λ g mi 3 0 1 0
  else
    let h := timerG Λ (followG g n (mi 0)) n
    if lastA h n < mi 6 then ansG Λ h mi 3 0 (lastA h n + 1) (mi 10)
    else if the h n 4 ≤ mi 6 ∧ termA h n (mi 6) ≠ mi 7 then ansG Λ h mi 3 0 (firstA h n (mi 6)) (mi 10)
    else
      let p := reachF mi n 5 h (mi 6)
      ansG Λ (growG p.1 n (min (mi 8) p.2)) mi 3 1 p.2 (mi 10)
abbrev leadsOwn (g : Row) (mi : Int → Int) (n : Int) : Prop := the g n 3 = 2 ∧ mi 3 = the g n 1
def heardG (g : Row) (mi : Int → Int) (n : Int) : Row := st g (244 * n + 45 + mi 0) (max (the g n (45 + mi 0)) (mi 10))
def matchG (g : Row) (mi : Int → Int) (n i : Int) : Row :=
  let h := st g (244 * n + 38 + mi 0) (max (the g n (38 + mi 0)) i)
  st h (244 * n + 31 + mi 0) (the h n (38 + mi 0) + 1)
noncomputable def matchedG (Λ : Law) (g : Row) (mi : Int → Int) (n i : Int) : Row :=
  let h := holdG Λ (matchG g mi n i) n
  if the h n 3 = 2 ∧ the h n (31 + mi 0) ≤ lastA h n then sendG Λ h n (mi 0) else h
def readF (n : Int) : Nat → Row → Int → Row
  | 0, g, _ => g
  | f + 1, g, r => readF n f (if g (11028 + 6 * r) = n ∧ g (11032 + 6 * r) = 0 ∧ mostA g n (whoHeardA g n (g (11030 + 6 * r))) then
      (let h := st (st g (11032 + 6 * r) 1) (11033 + 6 * r) (the g n (15 + g (11029 + 6 * r)))
       if the h n 9 < h (11031 + 6 * r) then breakG h else h) else g) (r + 1)
def readG (g : Row) (n : Int) : Row := if the g n 3 = 2 then readF n (g 11135).toNat g 0 else g
def backG (g : Row) (mi : Int → Int) (n : Int) : Row := st g (244 * n + 31 + mi 0) (max (the g n (38 + mi 0) + 1) (min (the g n (31 + mi 0)) (mi 7)))
noncomputable def hearEG (Λ : Law) (g : Row) (mi : Int → Int) (n : Int) : Row :=
  if leadsOwn g mi n then
    (if mi 6 = 1 then readG (matchedG Λ (heardG g mi n) mi n (mi 7)) n else readG (sendG Λ (backG (heardG g mi n) mi n) n (mi 0)) n)
  else g
noncomputable def hearSG (Λ : Law) (g : Row) (mi : Int → Int) (n : Int) : Row := if leadsOwn g mi n then readG (matchedG Λ (heardG g mi n) mi n (mi 6)) n else g
def snapG (g : Row) (mi : Int → Int) (n : Int) : Row :=
  let h := if hasEnt g n (mi 6) ∧ termA g n (mi 6) = mi 7 then g else st g (244 * n + 8) 0
  fun x => if x = 244 * n + 5 then mi 7 else if x = 244 * n + 6 then mi 8 else if x = 244 * n + 7 then mi 9 else if x = 244 * n + 9 then mi 6
    else if 244 * n + 15 ≤ x ∧ x < 244 * n + 23 then mi (11 + (x - (244 * n + 15))) else if 244 * n + 23 ≤ x ∧ x < 244 * n + 31 then mi (11 + (x - (244 * n + 23))) else goesG h n (mi 6) x
noncomputable def snapshotG (Λ : Law) (g : Row) (mi : Int → Int) (n : Int) : Row :=
  if mi 3 < the g n 1 then ansG Λ g mi 5 0 0 0
  else
    let h := timerG Λ (followG g n (mi 0)) n
    if mi 6 ≤ the h n 9 then ansG Λ h mi 5 (the h n 9) 0 (mi 10) else ansG Λ (snapG h mi n) mi 5 (mi 6) 0 (mi 10)
def riseG (g : Row) (mi : Int → Int) (n : Int) : Row := if the g n 1 < mi 3 then followG (st (st g (244 * n + 1) (mi 3)) (244 * n + 2) (-1)) n (-1) else g
noncomputable def handG (Λ : Law) (g : Row) (mi : Int → Int) : Row :=
  let n := mi 1
  if the g n 0 ≠ 1 ∨ hasI (g (11124 + n)) (mi 0) then loseG g
  else
    let h := riseG g mi n
    if mi 2 = 0 then voteG Λ h mi n else if mi 2 = 1 then countG Λ h mi n else if mi 2 = 2 then entriesG Λ h mi n else if mi 2 = 3 then hearEG Λ h mi n else if mi 2 = 4 then snapshotG Λ h mi n else hearSG Λ h mi n
/-! a tick -/
def dueF (g : Row) : Nat → Int → Option Int
  | 0, _ => none
  | f + 1, m => if g (1708 + 27 * m + 4) ≤ g 11131 then some m else dueF g f (m + 1)
def dueA (g : Row) : Option Int := dueF g (g 11133).toNat 0
/-- a message goes out of the row -/
def outG (g : Row) (m : Int) : Row := fun x => if x = 11133 then g 11133 - 1 else if 1708 + 27 * m ≤ x ∧ x < 1708 + 27 * (g 11133 - 1) then g (x + 27) else g x
/-- a message's words, no more -/
def clip (m : Int → Int) : Int → Int := fun w => if 0 ≤ w ∧ w < 27 then m w else 0
noncomputable def handF (Λ : Law) : Nat → Row → Row
  | 0, g => g
  | f + 1, g => match dueA g with
    | none => g
    | some m => handF Λ f (handG Λ (outG g m) (clip (fun w => g (1708 + 27 * m + w))))
noncomputable def beatG (Λ : Law) (g : Row) (n : Int) : Row :=
  if the g n 3 ≠ 2 then
    let h := st g (244 * n + 10) (the g n 10 - 1)
    if the h n 10 = 0 then standG Λ h n else h
  else
    let h := st g (244 * n + 14) (the g n 14 + 1)
    if the h n 14 < 3 then h else sendAllG Λ (st (st h (244 * n + 14) 0) (244 * n + 13) (the g n 13 + 1)) n
noncomputable def beatF (Λ : Law) : Nat → Row → Int → Row
  | 0, g, _ => g
  | f + 1, g, n => beatF Λ f (if the g n 0 = 1 then beatG Λ g n else g) (n + 1)
noncomputable def tickG (Λ : Law) (g : Row) : Row :=
  let h := st g 11131 (g 11131 + 1)
  beatF Λ 7 (handF Λ ((h 11133).toNat + 1) h) 0
noncomputable def ticksF (Λ : Law) : Nat → Row → Row
  | 0, g => g
  | f + 1, g => ticksF Λ f (if g 11131 < 9999 then tickG Λ g else g)
noncomputable def ticksG (Λ : Law) (g : Row) (k : Nat) : Row := ticksF Λ k (st g 11138 0)
