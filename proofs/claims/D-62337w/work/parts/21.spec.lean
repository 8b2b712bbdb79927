/-! THE MATHEMATICAL VALUE that both classes are tied to: entries, lists of them, what each operation answers and makes of them -/
-- an entry: key, serial, deletion (0, 1), when it expires (-1: never), value, segment's number, cell (these three 0 for a deletion)
abbrev En : Type := Int × Int × Int × Int × Int × Int × Int
def eK (e : En) : Int := e.1
def eS (e : En) : Int := e.2.1
def eD (e : En) : Int := e.2.2.1
def eX (e : En) : Int := e.2.2.2.1
def eV (e : En) : Int := e.2.2.2.2.1
def eG (e : En) : Int := e.2.2.2.2.2.1
def eC (e : En) : Int := e.2.2.2.2.2.2
/-- a comes before b in a row -/
def bef (a b : En) : Prop := eK a < eK b ∨ (eK a = eK b ∧ eS b < eS a)
def befB (a b : En) : Bool := decide (eK a < eK b) || (eK a == eK b && decide (eS b < eS a))
def goneB (time : Int) (e : En) : Bool := eD e == 1 || (decide (0 ≤ eX e) && decide (eX e ≤ time))
/-- in order -/
def srd (l : List En) : Prop := l.Pairwise bef
def ins (a : En) : List En → List En
  | [] => [a]
  | b :: l => if befB a b = true then a :: b :: l else b :: ins a l
def srt : List En → List En
  | [] => []
  | a :: l => ins a (srt l)
/-- some snapshot sees serial a and not serial b -/
def prt (seen : List Int) (a b : Int) : Bool := seen.any (fun s => decide (a ≤ s) && decide (s < b))
/-- of L's entries of the key, f is the next one above e -/
def nxa (L : List En) (e f : En) : Bool := eK f == eK e && decide (eS e < eS f) && L.all (fun g => !(eK g == eK e && decide (eS e < eS g)) || decide (eS f ≤ eS g))
def shd (seen : List Int) (L : List En) (e : En) : Bool := L.any (fun f => nxa L e f && !prt seen (eS e) (eS f))
/-- gone, with all below it that the first pass leaves -/
def drp (time : Int) (seen : List Int) (L : List En) (e : En) : Bool := goneB time e && L.all (fun f => !(eK f == eK e && decide (eS f < eS e) && !shd seen L f) || goneB time f)
def kp (low : Bool) (time : Int) (seen : List Int) (L : List En) (e : En) : Bool := !shd seen L e && !(low && drp time seen L e)
def sift (low : Bool) (time : Int) (seen : List Int) (L : List En) : List En := L.filter (kp low time seen L)
-- tables: rows cut by six
def chkN : Nat → List En → List (List En)
  | 0, _ => []
  | n + 1, l => if l.isEmpty then [] else l.take 6 :: chkN n (l.drop 6)
def chk (l : List En) : List (List En) := chkN l.length l
-- filters
def kb (k : Int) : Int := zor (zshl 1 (zrem (zadd (zmul 5 k) 1) 32)) (zshl 1 (zrem (zadd (zmul 11 k) 7) 32))
def flt (t : List En) : Int := t.foldl (fun b e => zor b (kb (eK e))) 0
def hdK (t : List En) : Int := match t with
  | [] => -1
  | e :: _ => eK e
def laK (t : List En) : Int := match t.getLast? with
  | none => -1
  | some e => eK e
def may (t : List En) (k : Int) : Bool := decide (hdK t ≤ k) && decide (k ≤ laK t) && decide (zand (flt t) (kb k) = kb k)
/-- the entry of a key that a view of the serials up to most has in a row -/
def best (t : List En) (k most : Int) : Option En := t.find? (fun e => eK e == k && decide (eS e ≤ most))
/-- through tables: how many are looked into, and what is found -/
def srch (k most : Int) : List (List En) → Int × Option En
  | [] => (0, none)
  | t :: ts => if may t k = true then (match best t k most with
      | some e => (1, some e)
      | none => (1 + (srch k most ts).1, (srch k most ts).2)) else srch k most ts
-- THE STATE: time, last serial, batch (key, value, life), seen (3), probes, memtable, level 0 (tables, newest first), levels 1, 2, tail's number, cells used in the segments, records that aren't synced (first serial, cells, whether a head was begun)
abbrev Bt : Type := Int × Int × Int
abbrev Un : Type := Int × Int × Int
abbrev St : Type := Int × Int × List Bt × List Int × Int × List En × List (List En) × List En × List En × Int × List Int × List Un
-- merging
def mg1 (time : Int) (seen : List Int) (l1 l2 : List En) : List En := sift true time seen (srt (l1 ++ l2))
def mg0 (time : Int) (seen : List Int) (l0 : List (List En)) (l1 : List En) : List En := sift false time seen (srt (l0.flatten ++ l1))
/-- level 0 is merged: levels 1 and 2 behind it, how many were dropped -/
def mgd (time : Int) (seen : List Int) (l0 : List (List En)) (l1 l2 : List En) : List En × List En × Int :=
  let a := mg0 time seen l0 l1
  let d := Int.ofNat ((l0.flatten ++ l1).length) - Int.ofNat a.length
  if 12 < a.length then ([], mg1 time seen a l2, d + (Int.ofNat (a.length + l2.length) - Int.ofNat (mg1 time seen a l2).length)) else (a, l2, d)
/-- a flush: levels behind it -/
def fl0 (time : Int) (seen : List Int) (mem : List En) (l0 : List (List En)) (l1 l2 : List En) : List (List En) × List En × List En :=
  if mem.isEmpty then (l0, l1, l2)
  else if l0.length = 4 then (([sift false time seen mem]), (mgd time seen l0 l1 l2).1, (mgd time seen l0 l1 l2).2.1)
  else (sift false time seen mem :: l0, l1, l2)
def rdy (bt : List Bt) (k v life : Int) : Int × List Bt := if bt.length = 6 then (-3, bt) else (Int.ofNat bt.length + 1, bt ++ [(k, v, life)])
def lst (us : List Int) : Int := us.getLastD 0
/-- a record of n values: cells used behind it, its first cell for values -/
def rec1 (us : List Int) (n : Int) : List Int × Int := if 16 < lst us + 1 + n then (us ++ [1 + n], 1) else (us.dropLast ++ [lst us + 1 + n], lst us + 1)
/-- the entries of a batch -/
def bte (time sn g at0 : Int) : List Bt → List En
  | [] => []
  | (k, v, life) :: l => (if life < 0 then (k, sn + 1, 1, -1, 0, 0, 0) else (k, sn + 1, 0, if 0 < life then time + life else -1, v, g, at0)) :: bte time (sn + 1) g (at0 + 1) l
def live (g : Int) (l : List En) : List En := l.filter (fun e => eD e == 0 && eG e == g)
def allE (mem : List En) (l0 : List (List En)) (l1 l2 : List En) : List En := mem ++ (l0.flatten ++ (l1 ++ l2))
/-- how many heads records of six need for n values, the last segment filled so far -/
def hdsN : Nat → Int → Int → Int
  | 0, _, _ => 0
  | f + 1, fill, n => if n ≤ 0 then 0 else
      let need := 1 + (if n < 6 then n else 6)
      if 16 < fill + need then 1 + hdsN f need (n - 6) else hdsN f (fill + need) (n - 6)
def hds (fill n : Int) : Int := hdsN 20 fill n
/-- entries by their cells -/
def insC (a : En) : List En → List En
  | [] => [a]
  | b :: l => if eC a ≤ eC b then a :: b :: l else b :: insC a l
def srtC : List En → List En
  | [] => []
  | a :: l => insC a (srtC l)
/-- one record for a few of them: old cell and new place -/
def plc (g at0 : Int) : List En → List (Int × Int × Int)
  | [] => []
  | e :: l => (eC e, g, at0) :: plc g (at0 + 1) l
/-- all records: cells used behind them, and the new places of the old cells -/
def movN : Nat → Int → List Int → List En → List Int × List (Int × Int × Int)
  | 0, _, us, _ => (us, [])
  | f + 1, tl, us, l => if l.isEmpty then (us, []) else
      let r := rec1 us (Int.ofNat (l.take 6).length)
      let q := movN f tl r.1 (l.drop 6)
      (q.1, plc (tl + Int.ofNat r.1.length - 1) r.2 (l.take 6) ++ q.2)
def mov (tl : Int) (us : List Int) (l : List En) : List Int × List (Int × Int × Int) := movN 20 tl us l
def rel (tl : Int) (mv : List (Int × Int × Int)) (e : En) : En := if eD e = 0 ∧ eG e = tl then
    match mv.find? (fun q => q.1 == eC e) with
    | some q => (eK e, eS e, eD e, eX e, eV e, q.2.1, q.2.2)
    | none => e
  else e
/-- the last records lost: cells used and last serial behind it -/
def lose : List Un → Int → List Int → Int × List Int
  | [], sn, us => (sn, us)
  | (f, n, b) :: l, _, us => lose l (f - 1) (if b = 1 then us.dropLast else us.dropLast ++ [lst us - n])
def isV (seen : List Int) (s : Int) : Bool := s == -1 || (decide (0 ≤ s) && decide (s < 3) && decide (0 ≤ seen.getD s.toNat (-1)))
def mst (seen : List Int) (s : Int) : Int := if s < 0 then 2147483647 else seen.getD s.toNat (-1)
def isK (k : Int) : Bool := decide (0 ≤ k) && decide (k < 32)
def tbs (l0 : List (List En)) (l1 l2 : List En) : List (List En) := l0 ++ (chk l1 ++ chk l2)
/-- what a search finds, and its probes -/
def fnd (most k : Int) (mem : List En) (l0 : List (List En)) (l1 l2 : List En) : Int × Option En := match best mem k most with
  | some e => (0, some e)
  | none => srch k most (tbs l0 l1 l2)
/-- whether a key is there -/
def thr (time most : Int) (A : List En) (k : Int) : Bool := match best (srt A) k most with
  | some e => !goneB time e
  | none => false
def scnN (time most : Int) (A : List En) : Nat → Int → Int → Int
  | 0, _, _ => -2
  | f + 1, k0, n => if 32 ≤ k0 then -2 else if thr time most A k0 = true then (if n = 0 then k0 else scnN time most A f (k0 + 1) (n - 1)) else scnN time most A f (k0 + 1) n
