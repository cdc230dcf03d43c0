/-! THE PLAIN STATE: counts (by number), rows of counts, rows of ints, the shelves' elements -/
abbrev St : Type := (Nat → Nat) × (Nat → Nat → Nat) × (Nat → Nat → Int32) × (Nat → Int64)
def ns (t : St) : Nat := t.1 0
def nb (t : St) : Nat := t.1 1
def tl (t : St) : Nat := t.1 2
def dn (t : St) : Nat := t.1 3
def ud (t : St) : Nat := t.1 4
def pm (t : St) : Nat := t.1 5
def ps (t : St) : Nat := t.1 6
def wm (t : St) : Nat := t.1 7
def hm (t : St) : Nat := t.1 8
def dp (t : St) : Nat := t.1 9
def sp (t : St) : Nat := t.1 10
def rm (t : St) : Nat := t.1 11
def rt (t : St) : Nat := t.1 12
def tr (t : St) : Nat := t.1 13
def nc (t : St) : Nat → Nat := t.2.1 0
def bo (t : St) : Nat → Nat := t.2.1 1
def bk (t : St) : Nat → Nat := t.2.1 2
def li (t : St) : Nat → Nat := t.2.1 3
def ao (t : St) : Nat → Nat := t.2.1 4
def aa (t : St) : Nat → Nat := t.2.1 5
def pa (t : St) : Nat → Nat := t.2.1 6
def po (t : St) : Nat → Nat := t.2.1 7
def wt (t : St) : Nat → Nat := t.2.1 8
def rc (t : St) : Nat → Nat := t.2.1 9
def rw' (t : St) : Nat → Nat := t.2.1 10
def sz (t : St) : Nat → Nat := t.2.1 11
def hv (t : St) : Nat → Int32 := t.2.2.1 0
def pd (t : St) : Nat → Int32 := t.2.2.1 1
def wg (t : St) : Nat → Int32 := t.2.2.1 2
def hl (t : St) : Nat → Int32 := t.2.2.1 3
def sf (t : St) : Nat → Int32 := t.2.2.1 4
def ck (t : St) : Nat → Int32 := t.2.2.1 5
def jo (t : St) : Nat → Int32 := t.2.2.1 6
def jt (t : St) : Nat → Int32 := t.2.2.1 7
def tp (t : St) : Nat → Int32 := t.2.2.1 8
def be (t : St) : Nat → Int32 := t.2.2.1 9
def bh (t : St) : Nat → Int32 := t.2.2.1 10
def cb (t : St) : Nat → Int32 := t.2.2.1 11
def pb (t : St) : Nat → Int32 := t.2.2.1 12
def wb (t : St) : Nat → Int32 := t.2.2.1 13
def wi (t : St) : Nat → Int32 := t.2.2.1 14
def hi (t : St) : Nat → Int32 := t.2.2.1 15
def ea (t : St) : Nat → Int32 := t.2.2.1 16
def ew (t : St) : Nat → Int32 := t.2.2.1 17
def ha (t : St) : Nat → Int32 := t.2.2.1 18
def rv (t : St) : Nat → Int32 := t.2.2.1 19
def ra (t : St) : Nat → Int32 := t.2.2.1 20
def rb (t : St) : Nat → Int32 := t.2.2.1 21
def td (t : St) : Nat → Int32 := t.2.2.1 22
def ho (t : St) : Nat → Int32 := t.2.2.1 23
def el (t : St) : Nat → Int64 := t.2.2.2
def uN (t : St) (f v : Nat) : St := (fun g => if g = f then v else t.1 g, t.2.1, t.2.2.1, t.2.2.2)
def uA (t : St) (k : Nat) (v : Nat → Nat) : St := (t.1, fun g => if g = k then v else t.2.1 g, t.2.2.1, t.2.2.2)
def uI (t : St) (k : Nat) (v : Nat → Int32) : St := (t.1, t.2.1, fun g => if g = k then v else t.2.2.1 g, t.2.2.2)
def uL (t : St) (v : Nat → Int64) : St := (t.1, t.2.1, t.2.2.1, v)
/-- a row with one place changed -/
def ux {α : Type} (f : Nat → α) (i : Nat) (x : α) : Nat → α := fun j => if j = i then x else f j
/-- between -/
def bt (v : Int32) (lo hi : Int) : Bool := decide (lo ≤ v.toInt ∧ v.toInt ≤ hi)
abbrev nt (x : Int32) : Nat := x.toNatClampNeg
def isSh (t : St) (s : Int32) : Bool := bt s 0 (ns t - 1)
def isCo (t : St) (s c : Int32) : Bool := bt c 0 (nc t (nt s) - 1)
def ix (s a b : Nat) : Nat := 36 * s + 6 * a + b
def cntB (p : Nat → Bool) : Nat → Nat
  | 0 => 0
  | n + 1 => cntB p n + if p n then 1 else 0
def sumI (f : Nat → Int32) : Nat → Int32
  | 0 => 0
  | n + 1 => sumI f n + f n
/-- the bodies that lie in a shape, in their order -/
def inSh (t : St) (s b : Nat) : Bool := decide (li t b ≠ 0 ∧ (li t b - 1) / 36 = s)
def PL (t : St) (s : Nat) : List Nat := (List.range (nb t)).filter (inSh t s)
def pc (t : St) (b : Nat) : Nat := li t b - 1
def pA (t : St) (b : Nat) : Nat := pc t b / 6 % 6
def pB (t : St) (b : Nat) : Nat := pc t b % 6
def tones (t : St) (s : Nat) : Nat := cntB (fun c => decide (hl t (6 * s + c) = 0)) (nc t s)
/-! tape, shapes' words -/
def fdL (t : St) (v : Int32) : Nat → Nat → Int32
  | 0 => tp t
  | k + 1 => ux (fdL t v k) (tl t + k) ((v >>> nI (8 * k)).toInt8.toInt32)
def spFeed (t : St) (n v : Int32) : St × Int32 :=
  if ¬ bt n 1 4 then (t, -1) else if 120 < tl t + nt n then (t, -3) else (uN (uI t 8 (fdL t v (nt n))) 2 (tl t + nt n), nI (tl t + nt n))
def spOf (t : St) (s w : Int32) : Int32 :=
  if ¬ isSh t s ∨ w < 0 then -2000000000
  else if w = 0 then nI (nc t (nt s)) else if w = 1 then nI (PL t (nt s)).length else if w = 2 then nI (tones t (nt s))
  else if ¬ nt w % 10 < nc t (nt s) then -2000000000
  else if nt w / 10 = 1 then hv t (6 * nt s + nt w % 10) else if nt w / 10 = 2 then pd t (6 * nt s + nt w % 10)
  else if nt w / 10 = 3 then wg t (6 * nt s + nt w % 10) else if nt w / 10 = 4 then hl t (6 * nt s + nt w % 10) else -2000000000
def has (t : St) (s a b : Nat) : Bool := decide (0 < bo t (ix s a b))
def spPiece (t : St) (s a b w : Int32) : Int32 :=
  if ¬ (isSh t s ∧ isCo t s a ∧ isCo t s b ∧ bt w 0 2) then -1
  else if has t (nt s) (nt a) (nt b) = false then -2
  else if w = 0 then nI (bo t (ix (nt s) (nt a) (nt b)) - 1) else if w = 1 then sf t (ix (nt s) (nt a) (nt b)) else ck t (ix (nt s) (nt a) (nt b))
/-! acts -/
def setP (t : St) (s a b : Nat) (v c : Int32) : St := uI (uI t 4 (ux (ux (sf t) (ix s a b) v) (ix s b a) v)) 5 (ux (ux (ck t) (ix s a b) c) (ix s b a) c)
def setSt (t : St) (p : Nat) (v c : Int32) : St := setP t (p / 36) (p / 6 % 6) (p % 6) v c
def setA (t : St) (f p : Nat) (v c : Int32) : St :=
  if f = 0 then uI t 1 (ux (pd t) p v) else if f = 1 then uI t 2 (ux (wg t) p v) else if f = 2 then uI t 3 (ux (hl t) p v)
  else if f = 3 then setSt t p (sf t p) v else if f = 4 then setSt t p v c else uI t 0 (ux (hv t) p v)
/-- a row without its first -/
def shf {α : Type} (f : Nat → α) : Nat → α := fun j => f (j + 1)
def drop1 (t : St) : St := uN (uI (uI (uI (uA (uA t 4 (shf (ao t))) 5 (shf (aa t))) 9 (shf (be t))) 10 (shf (bh t))) 11 (shf (cb t))) 3 (dn t - 1)
def keep1 (t : St) (f p : Nat) (was is cw : Int32) : St :=
  uN (uI (uI (uI (uA (uA t 4 (ux (ao t) (dn t) f)) 5 (ux (aa t) (dn t) p)) 9 (ux (be t) (dn t) was)) 10 (ux (bh t) (dn t) is)) 11 (ux (cb t) (dn t) cw)) 3 (dn t + 1)
def keptS (t : St) (f p : Nat) (was is cw : Int32) : St := if dn t = 40 then keep1 (drop1 (uN t 4 0)) f p was is cw else keep1 (uN t 4 0) f p was is cw
def spPut (t : St) (s c w v : Int32) : St × Int32 :=
  if ¬ (isSh t s ∧ isCo t s c ∧ bt w 0 2 ∧ bt v 0 (if w = 2 then 1 else 9)) then (t, -1)
  else if t.2.2.1 (1 + nt w) (6 * nt s + nt c) = v then (t, v)
  else (setA (keptS t (nt w) (6 * nt s + nt c) (t.2.2.1 (1 + nt w) (6 * nt s + nt c)) v 0) (nt w) (6 * nt s + nt c) v 0, t.2.2.1 (1 + nt w) (6 * nt s + nt c))
def spCrack (t : St) (s a b c : Int32) : St × Int32 :=
  if ¬ (isSh t s ∧ isCo t s a ∧ isCo t s b ∧ bt c 0 9) then (t, -1)
  else if has t (nt s) (nt a) (nt b) = false then (t, -2)
  else if sf t (ix (nt s) (nt a) (nt b)) < c then (t, -1)
  else if ck t (ix (nt s) (nt a) (nt b)) = c then (t, c)
  else (setA (keptS t 3 (ix (nt s) (nt a) (nt b)) (ck t (ix (nt s) (nt a) (nt b))) c 0) 3 (ix (nt s) (nt a) (nt b)) c 0, ck t (ix (nt s) (nt a) (nt b)))
def mnI (a b : Int32) : Int32 := if a < b then a else b
def mxI (a b : Int32) : Int32 := if b < a then a else b
def abI (v : Int32) : Int32 := if v < 0 then -v else v
def spStroke (t : St) (s a b : Int32) : St × Int32 :=
  if ¬ (isSh t s ∧ isCo t s a ∧ (b = -1 ∨ isCo t s b)) then (t, -1)
  else if b = -1 then
    if hv t (6 * nt s + nt a) = 1 then (t, -4)
    else (setA (keptS t 5 (6 * nt s + nt a) (hv t (6 * nt s + nt a)) (hv t (6 * nt s + nt a) - 1) 0) 5 (6 * nt s + nt a) (hv t (6 * nt s + nt a) - 1) 0, hv t (6 * nt s + nt a) - 1)
  else if has t (nt s) (nt a) (nt b) = false then (t, -2)
  else if sf t (ix (nt s) (nt a) (nt b)) = 1 then (t, -4)
  else (setA (keptS t 4 (ix (nt s) (nt a) (nt b)) (sf t (ix (nt s) (nt a) (nt b))) (sf t (ix (nt s) (nt a) (nt b)) - 1) (ck t (ix (nt s) (nt a) (nt b)))) 4 (ix (nt s) (nt a) (nt b)) (sf t (ix (nt s) (nt a) (nt b)) - 1) (mnI (ck t (ix (nt s) (nt a) (nt b))) (sf t (ix (nt s) (nt a) (nt b)) - 1)), sf t (ix (nt s) (nt a) (nt b)) - 1)
def spUndo (t : St) : St × Int32 :=
  if dn t = 0 then (t, -4) else (setA (uN (uN t 3 (dn t - 1)) 4 (ud t + 1)) (ao t (dn t - 1)) (aa t (dn t - 1)) (be t (dn t - 1)) (cb t (dn t - 1)), nI (dn t - 1))
def spRedo (t : St) : St × Int32 :=
  if ud t = 0 then (t, -4) else (setA (uN (uN t 3 (dn t + 1)) 4 (ud t - 1)) (ao t (dn t)) (aa t (dn t)) (bh t (dn t)) (mnI (cb t (dn t)) (bh t (dn t))), nI (ud t - 1))
def dgC (t : St) (s : Nat) (v : Int32) : Nat → Int32
  | 0 => v
  | c + 1 => (((dgC t s v c * 31 + hv t (6 * s + c)) * 31 + pd t (6 * s + c)) * 31 + wg t (6 * s + c)) * 31 + hl t (6 * s + c)
def dgB (t : St) (v : Int32) (b : Nat) : Int32 := (((v * 31 + nI (min (pA t b) (pB t b))) * 31 + nI (max (pA t b) (pB t b))) * 31 + sf t (pc t b)) * 31 + ck t (pc t b)
def dgS (t : St) : Nat → Int32
  | 0 => 7
  | s + 1 => (PL t s).foldl (dgB t) (dgC t s (dgS t s) (nc t s))
/-! what is tried: corners, masses, pads, held, counts -/
abbrev Tk : Type := Nat × (Nat → Int32) × (Nat → Int32) × (Nat → Int32) × (Nat → Nat → Int32)
def kN (k : Tk) : Nat := k.1
def kM (k : Tk) : Nat → Int32 := k.2.1
def kP (k : Tk) : Nat → Int32 := k.2.2.1
def kH (k : Tk) : Nat → Int32 := k.2.2.2.1
def kC (k : Tk) : Nat → Nat → Int32 := k.2.2.2.2
def massO (h w : Int32) : Int32 := if 9 < h + w then 9 else h + w
def cnt (t : St) (s a b : Nat) : Int32 := if has t s a b then sf t (ix s a b) - ck t (ix s a b) else 0
def tkO (t : St) (s : Nat) : Tk := (nc t s, fun a => massO (hv t (6 * s + a)) (wg t (6 * s + a)), fun a => pd t (6 * s + a), fun a => hl t (6 * s + a), cnt t s)
def rws (k : Tk) : List Nat := (List.range (kN k)).filter (fun a => decide (kH k a = 0))
def rwa (k : Tk) (i : Nat) : Nat := (rws k).getD i 0
def mt (k : Tk) (p q : Int32) (i j : Nat) : Int64 :=
  if i = j then q.toInt64 * (kP k (rwa k i) + sumI (kC k (rwa k i)) (kN k)).toInt64 - p.toInt64 * (kM k (rwa k i)).toInt64
  else (-(q.toInt64)) * (kC k (rwa k i) (rwa k j)).toInt64
def pop (s : Nat) : Nat := cntB s.testBit 6
def lowb (s : Nat) : Nat := if s % 2 = 1 then 0 else if s / 2 % 2 = 1 then 1 else if s / 4 % 2 = 1 then 2 else if s / 8 % 2 = 1 then 3 else if s / 16 % 2 = 1 then 4 else 5
def clrb (s i : Nat) : Nat := if s.testBit i then s - 2 ^ i else s
def mnL (row g : Nat → Int64) (cols : Nat) : Nat → Int64 × Bool
  | 0 => (0, false)
  | j + 1 => if cols.testBit j then (if row j = 0 then (mnL row g cols j).1 else (mnL row g cols j).1 + (if (mnL row g cols j).2 then -(row j * g j) else row j * g j), !(mnL row g cols j).2) else mnL row g cols j
def mnF (M : Nat → Nat → Int64) (m : Nat) : Nat → Nat → Nat → Int64
  | 0, _, _ => 1
  | f + 1, set, cols => if set = 0 then 1 else (mnL (M (lowb set)) (fun j => mnF M m f (clrb set (lowb set)) (clrb cols j)) cols m).1
def mnr (M : Nat → Nat → Int64) (m set cols : Nat) : Int64 := mnF M m (pop set) set cols
def smL (M : Nat → Nat → Int64) (m : Nat) : Nat → Nat → Int64
  | 0, _ => 0
  | n + 1, k => smL M m n k + if pop n = k then mnr M m n n else 0
def sms (k : Tk) (p q : Int32) : Nat → Int64 := smL (mt k p q) (rws k).length (2 ^ (rws k).length)
def chL (S : Nat → Int64) : Nat → Nat × Bool
  | 0 => (0, true)
  | k + 1 => if S (k + 1) = 0 ∨ decide (0 < S (k + 1)) = (chL S k).2 then chL S k else ((chL S k).1 + 1, !(chL S k).2)
def zrL (S : Nat → Int64) : Nat → Nat
  | 0 => 0
  | k + 1 => if S (k + 1) = 0 then zrL S k + 1 else 0
def chg (k : Tk) (p q : Int32) : Nat := (chL (sms k p q) (rws k).length).1
def zer (k : Tk) (p q : Int32) : Nat := zrL (sms k p q) (rws k).length
def shL (c : Nat → Nat) (i : Nat) : Nat → Nat → Nat → Nat
  | 0, lo, _ => lo
  | f + 1, lo, hi => if hi - lo ≤ 1 then lo else if c ((lo + hi) / 2) ≤ i then shL c i f ((lo + hi) / 2) hi else shL c i f lo ((lo + hi) / 2)
def sht (k : Tk) (q : Int32) (i : Nat) : Nat := shL (fun p => chg k (nI p) q) i 7 0 100
def isMk (m : Int32) : Bool := bt m 0 999 && decide (nt m % 10 ≠ 0)
def spBelow (t : St) (s m w : Int32) : Int32 :=
  if ¬ (isSh t s ∧ isMk m ∧ bt w 0 1) then -1
  else if w = 0 then nI (chg (tkO t (nt s)) (nI (nt m / 10)) (nI (nt m % 10))) else nI (zer (tkO t (nt s)) (nI (nt m / 10)) (nI (nt m % 10)))
def spSums (t : St) (s m k : Int32) : Int64 :=
  if ¬ (isSh t s ∧ isMk m ∧ bt k 0 (tones t (nt s))) then Int64.minValue else sms (tkO t (nt s)) (nI (nt m / 10)) (nI (nt m % 10)) (nt k)
def isTn (t : St) (s : Nat) (i : Int32) : Bool := bt i 0 (tones t s - 1)
def isPt (q : Int32) : Bool := bt q 1 9
def spShut (t : St) (s i q : Int32) : Int32 :=
  if ¬ (isSh t s ∧ isTn t (nt s) i ∧ isPt q) then -1 else nI (sht (tkO t (nt s)) q (nt i))
def kHeld (k : Tk) (c : Nat) : Tk := (k.1, k.2.1, k.2.2.1, ux k.2.2.2.1 c 1, k.2.2.2.2)
def kMass (k : Tk) (c : Nat) (v : Int32) : Tk := (k.1, ux k.2.1 c v, k.2.2.1, k.2.2.2.1, k.2.2.2.2)
def kCnt (k : Tk) (a b : Nat) (v : Int32) : Tk := (k.1, k.2.1, k.2.2.1, k.2.2.2.1, fun x y => if x = a ∧ y = b ∨ x = b ∧ y = a then v else k.2.2.2.2 x y)
def spStill (t : St) (s c m : Int32) : Int32 :=
  if ¬ (isSh t s ∧ isCo t s c ∧ hl t (6 * nt s + nt c) = 0 ∧ isMk m) then -1
  else if 0 < zer (tkO t (nt s)) (nI (nt m / 10)) (nI (nt m % 10)) ∧ zer (tkO t (nt s)) (nI (nt m / 10)) (nI (nt m % 10)) ≤ zer (kHeld (tkO t (nt s)) (nt c)) (nI (nt m / 10)) (nI (nt m % 10)) then 1 else 0
def spSplit (t : St) (s i q w : Int32) : Int32 :=
  if ¬ (isSh t s ∧ isTn t (nt s) i ∧ isPt q ∧ 0 ≤ w.toInt ∧ nt w / 10 < nc t (nt s) ∧ nt w % 10 ≠ 0) then -1
  else if hl t (6 * nt s + nt w / 10) ≠ 0 ∨ 0 < wg t (6 * nt s + nt w / 10) then -4
  else nI (cntB (fun k => decide (sht (tkO t (nt s)) q k = sht (tkO t (nt s)) q (nt i) ∧ sht (kMass (tkO t (nt s)) (nt w / 10) (massO (hv t (6 * nt s + nt w / 10)) (nI (nt w % 10)))) q k ≠ sht (tkO t (nt s)) q k)) (tones t (nt s)))
def hld (v : Int32) : Int32 := if v < 1 then 1 else if 9 < v then 9 else v
def tkB (t : St) (s : Nat) (y : Int32) : Tk := (nc t s, fun a => massO (hld (hv t (6 * s + a) - y)) (wg t (6 * s + a)), fun a => pd t (6 * s + a), fun a => hl t (6 * s + a),
  fun a b => if has t s a b then hld (sf t (ix s a b) + y) - mnI (hld (sf t (ix s a b) + y)) (ck t (ix s a b)) else 0)
def spBounds (t : St) (s i q d w : Int32) : Int32 :=
  if ¬ (isSh t s ∧ isTn t (nt s) i ∧ isPt q ∧ bt d 0 8 ∧ bt w 0 1) then -1 else nI (sht (tkB t (nt s) (if w = 0 then -d else d)) q (nt i))
def ldB (t : St) (s : Nat) (q : Int32) (i : Nat) (x : Int32 × Int32) (b : Nat) : Int32 × Int32 :=
  if 0 ≤ x.1 ∧ nI (sht (tkO t s) q i) - nI (sht (kCnt (tkO t s) (pA t b) (pB t b) 0) q i) ≤ x.2 then x
  else (nI b, nI (sht (tkO t s) q i) - nI (sht (kCnt (tkO t s) (pA t b) (pB t b) 0) q i))
def spLed (t : St) (s i q w : Int32) : Int32 :=
  if ¬ (isSh t s ∧ isTn t (nt s) i ∧ isPt q ∧ bt w 0 1) then -1
  else if w = 0 then ((PL t (nt s)).foldl (ldB t (nt s) q (nt i)) (-2, 0)).1 else ((PL t (nt s)).foldl (ldB t (nt s) q (nt i)) (-2, 0)).2
/-! turns -/
def like (t : St) (s a o b : Nat) : Bool := decide (hv t (6 * s + a) = hv t (6 * o + b) ∧ pd t (6 * s + a) = pd t (6 * o + b) ∧ wg t (6 * s + a) = wg t (6 * o + b) ∧ hl t (6 * s + a) = hl t (6 * o + b))
def tnOk (t : St) (s o : Nat) (r : List Nat) (to : Nat) : Bool :=
  decide (to ∉ r) && (like t s r.length o to && (List.range r.length).all (fun k => decide (cnt t s k r.length = cnt t o (r.getD k 0) to)))
def trn (t : St) (s o : Nat) : Nat → List Nat → List (List Nat)
  | 0, r => [r]
  | f + 1, r => (List.range (nc t s)).flatMap (fun to => if tnOk t s o r to then trn t s o f (r ++ [to]) else [])
def trnA (t : St) (s o : Nat) : List (List Nat) := trn t s o (nc t s) []
def spTurns (t : St) (s : Int32) : Int32 := if isSh t s then nI (trnA t (nt s) (nt s)).length else -1
def orb (L : List (List Nat)) (c : Nat) : Int32 := L.foldl (fun b r => b ||| ((1 : Int32) <<< nI (r.getD c 0))) 0
def spOrbit (t : St) (s c : Int32) : Int32 := if isSh t s ∧ isCo t s c then orb (trnA t (nt s) (nt s)) (nt c) else -1
def dgt (r : List Nat) : Int32 := r.foldl (fun v x => 10 * v + nI x) 0
def tabO (t : St) (s o : Nat) : Int32 := if nc t s ≠ nc t o then -2 else match trnA t s o with
  | [] => -2
  | r :: _ => dgt r
def spTable (t : St) (s o : Int32) : Int32 := if isSh t s ∧ isSh t o then tabO t (nt s) (nt o) else -1
def dvL (t : St) (s : Nat) : Nat → Int64
  | 0 => 1
  | c + 1 => if hl t (6 * s + c) = 0 then dvL t s c * (massO (hv t (6 * s + c)) (wg t (6 * s + c))).toInt64 else dvL t s c
def lsm (t : St) (s p : Nat) : Int64 := sms (tkO t s) (nI p) 1 (rws (tkO t s)).length
def sndA (t : St) (s o : Nat) : Bool := decide (tones t s = tones t o) && (List.range 7).all (fun p => decide (lsm t s p * dvL t o (nc t o) = lsm t o p * dvL t s (nc t s)))
def spAlike (t : St) (s o w : Int32) : Int32 :=
  if ¬ (isSh t s ∧ isSh t o ∧ bt w 0 1) then -1
  else if sndA t (nt s) (nt o) = false then 0 else if w = 0 ∨ tabO t (nt s) (nt o) = -2 then 1 else 0
/-! plans -/
def samP (t : St) (a b : Int32) (k : Nat) : Bool := decide ((nI (pa t k) = a ∧ pb t k = b) ∨ (0 ≤ b ∧ nI (pa t k) = b ∧ pb t k = a))
def spPlan (t : St) (s a b n : Int32) : St × Int32 :=
  if ¬ (isSh t s ∧ isCo t s a ∧ (b = -1 ∨ isCo t s b) ∧ bt n 1 3 ∧ (pm t = 0 ∨ nt s = ps t)) then (t, -1)
  else if (List.range (pm t)).any (samP t a b) then (t, -1)
  else if 0 ≤ b ∧ has t (nt s) (nt a) (nt b) = false then (t, -2)
  else if pm t = 6 then (t, -3)
  else (uN (uN (uA (uI (uA t 6 (ux (pa t) (pm t) (nt a))) 12 (ux (pb t) (pm t) b)) 7 (ux (po t) (pm t) (nt n))) 6 (nt s)) 5 (pm t + 1), nI (pm t + 1))
def spWish (t : St) (i q v : Int32) : St × Int32 :=
  if pm t = 0 then (t, if bt i 0 5 ∧ isPt q ∧ bt v 0 99 then -4 else -1)
  else if ¬ (isTn t (ps t) i ∧ isPt q ∧ bt v 0 99) then (t, -1)
  else if (List.range (wm t)).any (fun k => decide (nI (wt t k) = i ∧ wb t k = q)) then (t, -1)
  else if wm t = 6 then (t, -3)
  else (uN (uI (uI (uA t 8 (ux (wt t) (wm t) (nt i))) 13 (ux (wb t) (wm t) q)) 14 (ux (wi t) (wm t) v)) 7 (wm t + 1), nI (wm t + 1))
def skS (t : St) (x : Tk) (k : Nat) (n : Int32) : Tk × Bool :=
  if pb t k < 0 then (kMass x (pa t k) (massO (hv t (6 * ps t + pa t k) - n) (wg t (6 * ps t + pa t k))), decide (1 ≤ hv t (6 * ps t + pa t k) - n))
  else (kCnt x (pa t k) (nt (pb t k)) (sf t (ix (ps t) (pa t k) (nt (pb t k))) - n - mnI (sf t (ix (ps t) (pa t k) (nt (pb t k))) - n) (ck t (ix (ps t) (pa t k) (nt (pb t k))))), decide (1 ≤ sf t (ix (ps t) (pa t k) (nt (pb t k))) - n))
def spMoved (t : St) (k i q : Int32) : Int32 :=
  if ¬ (bt k 0 (pm t - 1) ∧ isTn t (ps t) i ∧ isPt q) then -1
  else if (skS t (tkO t (ps t)) (nt k) 1).2 then nI (sht (skS t (tkO t (ps t)) (nt k) 1).1 q (nt i)) else -4
def stkL (t : St) (r : Nat → Nat) : Nat → Option Tk
  | 0 => some (tkO t (ps t))
  | k + 1 => match stkL t r k with
    | none => none
    | some x => if r k = 0 then some x else if (skS t x k (nI (r k))).2 then some (skS t x k (nI (r k))).1 else none
def apt (t : St) (x : Tk) : Nat → Int32
  | 0 => 0
  | w + 1 => apt t x w + abI (nI (sht x (wb t w) (wt t w)) - wi t w)
def tnD (r : Nat → Nat) : Nat → Int32
  | 0 => 0
  | k + 1 => (List.range (r k)).foldl (fun v _ => 10 * v + nI k + 1) (tnD r k)
/-- fewest, its digits, closest, of how many -/
abbrev Tn : Type := Int32 × Int32 × Int32 × Int32
def tnU (t : St) (x : Tn) (r : Nat → Nat) (done : Nat) : Tn := match stkL t r (pm t) with
  | none => x
  | some k =>
    let y : Tn := if x.2.2.1 < 0 ∨ apt t k (wm t) < x.2.2.1 ∨ apt t k (wm t) = x.2.2.1 ∧ nI done < x.2.2.2 then (x.1, x.2.1, apt t k (wm t), nI done) else x
    if 0 < apt t k (wm t) ∨ 0 ≤ x.1 ∧ (x.1 < nI done ∨ nI done = x.1 ∧ x.2.1 ≤ tnD r (pm t)) then y else (nI done, tnD r (pm t), y.2.2.1, y.2.2.2)
def tnR (t : St) : Nat → (Nat → Nat) → Nat → Tn → Tn
  | 0, r, done, x => tnU t x r done
  | f + 1, r, done, x => (List.range (po t (pm t - (f + 1)) + 1)).foldl (fun y n => if done + n ≤ 4 then tnR t f (ux r (pm t - (f + 1)) n) (done + n) y else y) x
def spTune (t : St) (w : Int32) : Int32 :=
  if ¬ bt w 0 3 then -1 else if pm t = 0 ∨ wm t = 0 then -4
  else if (List.range (wm t)).any (fun k => decide (tones t (ps t) ≤ wt t k)) then -4
  else if w = 2 then (tnR t (pm t) (fun _ => 0) 0 (-1, 0, -1, 0)).2.2.1 else if w = 3 then (tnR t (pm t) (fun _ => 0) 0 (-1, 0, -1, 0)).2.2.2
  else if (tnR t (pm t) (fun _ => 0) 0 (-1, 0, -1, 0)).1 < 0 then -2
  else if w = 0 then (tnR t (pm t) (fun _ => 0) 0 (-1, 0, -1, 0)).1 else (tnR t (pm t) (fun _ => 0) 0 (-1, 0, -1, 0)).2.1
def spForget (t : St) : St × Int32 := (uN (uN t 5 0) 7 0, nI (pm t))
/-! cracks that fit -/
def spHear (t : St) (v : Int32) : St × Int32 := if ¬ bt v 0 99 then (t, -1) else if hm t = 6 then (t, -3) else (uN (uI t 15 (ux (hi t) (hm t) v)) 8 (hm t + 1), nI (hm t + 1))
def spUnhear (t : St) : St × Int32 := (uN t 8 0, nI (hm t))
def tk0 (t : St) (s : Nat) : Tk := (nc t s, fun a => massO (hv t (6 * s + a)) (wg t (6 * s + a)), fun a => pd t (6 * s + a), fun a => hl t (6 * s + a), fun a b => if has t s a b then sf t (ix s a b) else 0)
def cdB (t : St) (s b : Nat) : List (Tk × Int32 × Int32) := (List.range (nt (sf t (pc t b)))).map (fun c => (kCnt (tk0 t s) (pA t b) (pB t b) (sf t (pc t b) - nI (c + 1)), nI b, nI (c + 1)))
def cdL (t : St) (s : Nat) : List (Tk × Int32 × Int32) := (tk0 t s, -1, 0) :: (PL t s).flatMap (cdB t s)
def fitQ (t : St) (q : Int32) (x : Tk × Int32 × Int32) : Bool := (List.range (hm t)).all (fun i => decide (nI (sht x.1 q i) = hi t i))
def ftL (t : St) (s : Nat) (q : Int32) : List (Tk × Int32 × Int32) := (cdL t s).filter (fitQ t q)
def spFits (t : St) (s q w : Int32) : Int32 :=
  if ¬ (isSh t s ∧ isPt q ∧ bt w 0 2 ∧ hm t ≤ tones t (nt s)) then -1
  else if w = 0 then nI (ftL t (nt s) q).length else match ftL t (nt s) q with
    | [] => -2
    | x :: _ => if w = 1 then x.2.1 else x.2.2
def alk (L : List (Tk × Int32 × Int32)) (q : Int32) (i p : Nat) : Nat := (L.filter (fun x => decide (sht x.1 q i = p))).length
def mxL (f : Nat → Nat) : Nat → Nat
  | 0 => 0
  | n + 1 => max (mxL f n) (f n)
def nxF (L : List (Tk × Int32 × Int32)) (q : Int32) (x : Int32 × Nat) (i : Nat) : Int32 × Nat := if 0 ≤ x.1 ∧ x.2 ≤ mxL (alk L q i) 100 then x else (nI i, mxL (alk L q i) 100)
def spNext (t : St) (s q : Int32) : Int32 :=
  if ¬ (isSh t s ∧ isPt q ∧ hm t ≤ tones t (nt s)) then -1
  else if ftL t (nt s) q = [] then -2
  else ((List.range' (hm t) (tones t (nt s) - hm t)).foldl (nxF (ftL t (nt s) q) q) (-2, 0)).1
/-! blows -/
def spDamp (t : St) (v : Int32) : St × Int32 := if ¬ bt v 0 500 then (t, -1) else (uN t 9 (nt v), nI (dp t))
def spEar (t : St) (e c : Int32) : St × Int32 := if ¬ (bt e 0 3 ∧ bt c (-1) 5) then (t, -2000000000) else (uI t 16 (ux (ea t) (nt e) c), ea t (nt e))
abbrev XU : Type := (Nat → Int32) × (Nat → Int32)
def plS (k : Tk) (x : Nat → Int32) (i : Nat) : Int32 := (kP k i * x i + sumI (fun j => kC k i j * (x i - x j)) (kN k)) / kM k i / 8
def uS (k : Tk) (d : Int32) (z : XU) (i : Nat) : Int32 := (z.2 i - plS k z.1 i) - (z.2 i - plS k z.1 i) * d / 1000
def stS (k : Tk) (d : Int32) (z : XU) : XU := (fun i => if i < kN k ∧ kH k i = 0 then z.1 i + uS k d z i / 8 else z.1 i, fun i => if i < kN k ∧ kH k i = 0 then uS k d z i else z.2 i)
def mxS (k : Tk) (x : Nat → Int32) : Nat → Int32
  | 0 => 0
  | i + 1 => if kH k i = 0 then mxI (mxS k x i) (abI (x i)) else mxS k x i
def rlS (t : St) (k : Tk) (n : Nat) (u : Nat → Int32) : Nat → Nat → Int32
  | 0 => u
  | r + 1 => if rw' t r = n ∧ rc t r < kN k ∧ kH k (rc t r) = 0 then ux (rlS t k n u r) (rc t r) (rlS t k n u r (rc t r) + rv t r * 64) else rlS t k n u r
/-- the states by steps: by rolls (m of them), or from a blow -/
def sqS (t : St) (k : Tk) (m : Nat) (u : Nat → Int32) : Nat → XU
  | 0 => (fun _ => 0, u)
  | n + 1 => stS k (nI (dp t)) ((sqS t k m u n).1, rlS t k n (sqS t k m u n).2 m)
def mqS (t : St) (k : Tk) (m : Nat) (u : Nat → Int32) : Nat → Int32
  | 0 => 0
  | n + 1 => mxI (mqS t k m u n) (mxS k (sqS t k m u (n + 1)).1 (kN k))
def ewS (t : St) (s : Nat) (e : Nat) : Int32 := if bt (ea t e) 0 (nc t s - 1) then ea t e else -1
def blowT (t : St) (s m : Nat) (u : Nat → Int32) (n : Nat) : St :=
  uN (uI (uI t 17 (ewS t s)) 18 (fun i => (sqS t (tkO t s) m u (i % 200 + 1)).1 (nt (ewS t s (i / 200))))) 10 n
def spBlow (t : St) (s c v n : Int32) : St × Int32 :=
  if ¬ (isSh t s ∧ isCo t s c ∧ bt v (-99) 99 ∧ bt n 1 200) then (t, -1)
  else if hl t (6 * nt s + nt c) ≠ 0 then (t, -4)
  else (blowT t (nt s) 0 (ux (fun _ => 0) (nt c) (v * 64)) (nt n), mqS t (tkO t (nt s)) 0 (ux (fun _ => 0) (nt c) (v * 64)) (nt n))
def spRoll (t : St) (c v w : Int32) : St × Int32 :=
  if ¬ (bt c 0 5 ∧ bt v (-99) 99 ∧ bt w 0 99) then (t, -1) else if rm t = 6 then (t, -3)
  else (uN (uA (uI (uA t 9 (ux (rc t) (rm t) (nt c))) 19 (ux (rv t) (rm t) v)) 10 (ux (rw' t) (rm t) (nt w))) 11 (rm t + 1), nI (rm t + 1))
def spRolled (t : St) (s n : Int32) : St × Int32 :=
  if ¬ (isSh t s ∧ bt n 1 200) then (t, -1) else if rm t = 0 then (t, -4)
  else (uN (blowT t (nt s) (rm t) (fun _ => 0) (nt n)) 11 0, mqS t (tkO t (nt s)) (rm t) (fun _ => 0) (nt n))
def spHeard (t : St) (e k : Int32) : Int32 := if bt e 0 3 ∧ bt k 1 (sp t) ∧ 0 ≤ ew t (nt e) then ha t (200 * nt e + nt k - 1) else -2000000000
def ldM (t : St) (e : Nat) : Nat → Int32
  | 0 => 0
  | k + 1 => mxI (ldM t e k) (abI (ha t (200 * e + k)))
def ldK (t : St) (e : Nat) (w : Int32) : Nat → Nat
  | 0 => 0
  | k + 1 => if abI (ha t (200 * e + k)) ≤ w then ldK t e w k else k + 1
def spLoud (t : St) (e w : Int32) : Int32 :=
  if ¬ bt e 0 3 ∨ w < -1 then -1 else if sp t = 0 ∨ ew t (nt e) < 0 then -4
  else if w = -1 then ldM t (nt e) (sp t) else nI (min (ldK t (nt e) w (sp t) + 1) (sp t))
/-! rows -/
def srt (t : St) (s : Nat) : Nat := nt (-2 - ho t s)
def mostI (k : Nat) : Int32 := if k = 0 then 127 else if k = 1 then 32767 else 2147483647
def fit1 (m v : Int32) : Int32 := if m < v then m else if v < -m then -m else v
def wrL (t : St) (e s i : Nat) : Nat → Nat → Int64
  | 0 => el t
  | k + 1 => ux (wrL t e s i k) (60 * s + i + k) (fit1 (mostI (srt t s)) (ha t (200 * e + k))).toInt64
def spWrite (t : St) (e s i n : Int32) : St × Int32 :=
  if ¬ (bt e 0 3 ∧ bt s 0 5 ∧ bt n 1 60) then (t, -1) else if sp t = 0 ∨ ew t (nt e) < 0 then (t, -4)
  else if ho t (nt s) = -1 then (t, -11) else if ¬ bt (ho t (nt s)) (-4) (-2) then (t, -12)
  else if ¬ bt i 0 (sz t (nt s) - 1) then (t, -13)
  else (uL t (wrL t (nt e) (nt s) (nt i) (min (nt n) (min (sp t) (sz t (nt s) - nt i)))), nI (min (nt n) (min (sp t) (sz t (nt s) - nt i))))
def hrd (t : St) (s k : Nat) : Int64 := if el t (60 * s + k) = -1 - (mostI (srt t s)).toInt64 then 0 else el t (60 * s + k)
def sgn (n k : Nat) : Int32 := if 2 * (k % n) < n then 1 else if n < 2 * (k % n) then -1 else 0
def lnC (t : St) (s n d : Nat) : Nat → Int64
  | 0 => 0
  | k + 1 => lnC t s n d k + hrd t s k * (sgn n (k + d)).toInt64
def abL (v : Int64) : Int64 := if v < 0 then -v else v
def lnO (t : St) (s n : Nat) : Int64 :=
  if abL (lnC t s n (n / 4) (sz t s)) < abL (lnC t s n 0 (sz t s)) then abL (lnC t s n 0 (sz t s)) + abL (lnC t s n (n / 4) (sz t s)) / 2
  else abL (lnC t s n (n / 4) (sz t s)) + abL (lnC t s n 0 (sz t s)) / 2
def whyR (t : St) (s : Int32) : Int32 := if ¬ bt s 0 5 then -1 else if ho t (nt s) = -1 then -11 else if ¬ bt (ho t (nt s)) (-4) (-2) then -12 else 0
def spLness (t : St) (s n : Int32) : Int32 :=
  if ¬ (bt s 0 5 ∧ bt n 2 60) then -1 else if whyR t s < 0 then whyR t s else if 1999999999 < lnO t (nt s) (nt n) then 1999999999 else (lnO t (nt s) (nt n)).toInt32
def sgF (t : St) (s : Nat) (x : Nat × Int64) (n : Nat) : Nat × Int64 := if lnO t s n / (nI (sz t s)).toInt64 ≤ x.2 then x else (n, lnO t s n / (nI (sz t s)).toInt64)
def spStrong (t : St) (s : Int32) : Int32 :=
  if whyR t s < 0 then whyR t s else if sz t (nt s) = 0 then -2
  else nI ((List.range' 3 58).foldl (sgF t (nt s)) (2, lnO t (nt s) 2 / (nI (sz t (nt s))).toInt64)).1
/-! sets -/
def spRatio (t : St) (a b : Int32) : St × Int32 := if ¬ (bt a 1 9 ∧ bt b 1 9) then (t, -1) else if rt t = 6 then (t, -3) else (uN (uI (uI t 20 (ux (ra t) (rt t) a)) 21 (ux (rb t) (rt t) b)) 12 (rt t + 1), nI (rt t + 1))
def spUnratio (t : St) : St × Int32 := (uN t 12 0, nI (rt t))
def nth (w : Int32) (i : Nat) : Nat := nt w / 16 ^ i % 16
def lowO (t : St) (w : Int32) (i : Nat) : Int32 := nI (sht (tkO t (nth w i)) 9 0)
def agr (t : St) (w d : Int32) (k a b : Nat) : Bool := decide (abI (lowO t w a * rb t k - lowO t w b * ra t k) ≤ d)
/-- how many of those that are left agree with the one ahead; how many are there; the latest -/
def agL (t : St) (w d : Int32) (left : Nat) : Nat → Nat × Nat × Nat
  | 0 => (0, 0, 0)
  | i + 1 => if left.testBit i then ((agL t w d left i).1 + (if 0 < (agL t w d left i).2.1 ∧ agr t w d ((agL t w d left i).2.1 - 1) (agL t w d left i).2.2 i then 1 else 0), (agL t w d left i).2.1 + 1, i) else agL t w d left i
def agQ (t : St) (w d : Int32) (n left : Nat) : Bool := decide ((agL t w d left n).1 + 1 = (agL t w d left n).2.1)
def pop7 (s : Nat) : Nat := cntB s.testBit 7
def agF (t : St) (w d : Int32) (n : Nat) (x : Int32) (out : Nat) : Int32 := if (x < 0 ∨ pop7 out < pop7 (nt x)) ∧ agQ t w d n (2 ^ n - 1 - out) then nI out else x
def spAgree (t : St) (w n d k : Int32) : Int32 :=
  if ¬ (bt n 2 7 ∧ bt d 0 9999 ∧ bt k 0 1 ∧ 0 ≤ w.toInt ∧ nt w / 16 ^ nt n = 0 ∧ (List.range (nt n)).all (fun i => decide (nth w i < ns t ∧ tones t (nth w i) ≠ 0))) then -1
  else if rt t < nt n - 1 then -4
  else if k = 0 then nI (agL t w d (2 ^ nt n - 1) (nt n)).1
  else (List.range (2 ^ nt n - 1)).foldl (agF t w d (nt n)) (-1)
/-! new shapes -/
def blk {α : Type} (f : Nat → α) (w s : Nat) (g : Nat → α) : Nat → α := fun j => if w * s ≤ j ∧ j < w * s + w then g (j - w * s) else f j
def newS (t : St) (n : Nat) (fh fp fw fl : Nat → Int32) : St :=
  uA (uI (uI (uA (uI (uI (uI (uI (uI (uI t 0 (blk (hv t) 6 (ns t) fh)) 1 (blk (pd t) 6 (ns t) fp)) 2 (blk (wg t) 6 (ns t) fw)) 3 (blk (hl t) 6 (ns t) fl)) 4 (blk (sf t) 36 (ns t) (fun _ => 0))) 5 (blk (ck t) 36 (ns t) (fun _ => 0))) 1 (blk (bo t) 36 (ns t) (fun _ => 0))) 6 (ux (jo t) (ns t) (-1))) 7 (jt t)) 0 (ux (nc t) (ns t) n)
def bear (t : St) (s : Nat) (x : Nat × Nat × Int32 × Int32) : St :=
  uN (uA (uA (uA (setP t s x.1 x.2.1 x.2.2.1 x.2.2.2) 1 (ux (ux (bo t) (ix s x.1 x.2.1) (nb t + 1)) (ix s x.2.1 x.1) (nb t + 1))) 2 (ux (bk t) (nb t) 1)) 3 (ux (li t) (nb t) (ix s x.1 x.2.1 + 1))) 1 (nb t + 1)
def ch (t : St) (i : Nat) : Int32 := if i < tl t then tp t i else -1
def isD (t : St) (i : Nat) : Bool := bt (ch t i) 49 57
def dgs (t : St) : Nat → Nat
  | 0 => 0
  | n + 1 => if dgs t n = n ∧ isD t (1 + n) then n + 1 else dgs t n
/-- where; pads, weights, held; pieces that are new -/
abbrev PS : Type := Nat × (Nat → Int32) × (Nat → Int32) × (Nat → Int32) × List (Nat × Nat × Int32 × Int32)
def ltr (t : St) (n i : Nat) : Option Nat := if bt (ch t i) 97 (96 + n) then some (nt (ch t i - 97)) else none
def newP (L : List (Nat × Nat × Int32 × Int32)) (a b : Nat) : Bool := L.any (fun x => decide (x.1 = a ∧ x.2.1 = b ∨ x.1 = b ∧ x.2.1 = a))
/-- a part: where the fault is, or how it goes on -/
def prt (t : St) (n : Nat) (x : PS) : Nat ⊕ PS :=
  let i := x.1
  if ¬ (ch t i = 112 ∨ ch t i = 115 ∨ ch t i = 104 ∨ ch t i = 119) then .inl i
  else match ltr t n (i + 1) with
    | none => .inl (i + 1)
    | some a =>
      if ch t i = 112 then match ltr t n (i + 2) with
        | none => .inl (i + 2)
        | some b => if a = b ∨ newP x.2.2.2.2 a b then .inl (i + 2) else if isD t (i + 3) then .inr (i + 4, x.2.1, x.2.2.1, x.2.2.2.1, x.2.2.2.2 ++ [(a, b, ch t (i + 3) - 48, 0)]) else .inl (i + 3)
      else if ch t i = 115 ∧ x.2.1 a ≠ 0 ∨ ch t i = 119 ∧ x.2.2.1 a ≠ 0 ∨ ch t i = 104 ∧ x.2.2.2.1 a ≠ 0 then .inl (i + 1)
      else if ch t i = 104 then .inr (i + 2, x.2.1, x.2.2.1, ux x.2.2.2.1 a 1, x.2.2.2.2)
      else if isD t (i + 2) = false then .inl (i + 2)
      else if ch t i = 115 then .inr (i + 3, ux x.2.1 a (ch t (i + 2) - 48), x.2.2.1, x.2.2.2.1, x.2.2.2.2)
      else .inr (i + 3, x.2.1, ux x.2.2.1 a (ch t (i + 2) - 48), x.2.2.2.1, x.2.2.2.2)
def prs (t : St) (n : Nat) : Nat → PS → Nat ⊕ PS
  | 0, x => .inl x.1
  | f + 1, x => if ch t x.1 = 59 then (match prt t n (x.1 + 1, x.2) with
      | .inl i => .inl i
      | .inr y => prs t n f y) else if x.1 < tl t then .inl x.1 else .inr x
def prA (t : St) : Nat ⊕ PS := if ch t 0 ≠ 99 then .inl 0 else if dgs t 6 = 0 then .inl 1 else prs t (dgs t 6) 121 (1 + dgs t 6, fun _ => 0, fun _ => 0, fun _ => 0, [])
def spShape (t : St) : St × Int32 :=
  if ns t = 12 then (t, -3) else match prA t with
    | .inl i => (uN t 2 0, -100 - nI i)
    | .inr x => if 200 < nb t + x.2.2.2.2.length then (t, -3)
      else (uN (x.2.2.2.2.foldl (fun y z => bear y (ns t) z) (newS (uN t 2 0) (dgs t 6) (fun c => if c < dgs t 6 then ch t (1 + c) - 48 else 0) x.2.1 x.2.2.1 x.2.2.2.1)) 0 (ns t + 1), nI (ns t))
def mvP (t : St) (by' : Nat) (b : Nat) : Nat × Nat × Int32 × Int32 := (pA t b + by', pB t b + by', sf t (pc t b), ck t (pc t b))
def joiC (t : St) (f : Nat → Int32) (s o : Nat) (c : Nat) : Int32 := if c < nc t s then f (6 * s + c) else if c < nc t s + nc t o then f (6 * o + (c - nc t s)) else 0
def joiP (t : St) (s o : Nat) (ab v : Int32) : List (Nat × Nat × Int32 × Int32) := (PL t s).map (mvP t 0) ++ (PL t o).map (mvP t (nc t s)) ++ [(nt ab / 10, nc t s + nt ab % 10, v, 0)]
def spJoin (t : St) (s o ab v : Int32) : St × Int32 :=
  if ¬ (isSh t s ∧ isSh t o ∧ 0 ≤ ab.toInt ∧ nt ab / 10 < nc t (nt s) ∧ nt ab % 10 < nc t (nt o) ∧ bt v 1 9 ∧ nc t (nt s) + nc t (nt o) ≤ 6) then (t, -1)
  else if ns t = 12 ∨ 200 < nb t + (PL t (nt s)).length + (PL t (nt o)).length + 1 then (t, -3)
  else (uN (uI (uI ((joiP t (nt s) (nt o) ab v).foldl (fun y z => bear y (ns t) z) (newS t (nc t (nt s) + nc t (nt o)) (joiC t (hv t) (nt s) (nt o)) (joiC t (pd t) (nt s) (nt o)) (joiC t (wg t) (nt s) (nt o)) (joiC t (hl t) (nt s) (nt o)))) 6 (ux (jo t) (ns t) s)) 7 (ux (jt t) (ns t) o)) 0 (ns t + 1), nI (ns t))
def spLaw (t : St) (s m : Int32) : Int32 :=
  if ¬ (isSh t s ∧ isMk m) then -1 else if jo t (nt s) < 0 then -2
  else if chg (tkO t (nt s)) (nI (nt m / 10)) (nI (nt m % 10)) = chg (tkO t (nt (jo t (nt s)))) (nI (nt m / 10)) (nI (nt m % 10)) + chg (tkO t (nt (jt t (nt s)))) (nI (nt m / 10)) (nI (nt m % 10)) ∨ chg (tkO t (nt s)) (nI (nt m / 10)) (nI (nt m % 10)) + 1 = chg (tkO t (nt (jo t (nt s)))) (nI (nt m / 10)) (nI (nt m % 10)) + chg (tkO t (nt (jt t (nt s)))) (nI (nt m / 10)) (nI (nt m % 10)) then 1 else 0
/-! bodies' acts: the answer and what ran -/
def sfO (t : St) (b : Nat) : Int32 := if li t b = 0 then 0 else sf t (pc t b)
abbrev VT : Type := Int32 × List Nat
def aSt (t : St) (b : Nat) (v : Int32) : VT :=
  if bk t b = 4 ∨ bk t b = 5 then ((v + sfO t b - 1) ^^^ 3, [50, 20, 1]) else if bk t b = 1 ∨ bk t b = 2 then (v + sfO t b - 1, [20, 1]) else (v + sfO t b, [1])
def aWp (t : St) (b : Nat) (v : Int32) : VT := ((aSt t b v).1 * 2, 10 :: (aSt t b v).2)
def aWe (t : St) (b : Nat) (v : Int32) : VT :=
  if bk t b = 2 then ((aWp t b v).1 + (aSt t b 2).1, 31 :: (aWp t b v).2 ++ (aSt t b 2).2) else if bk t b = 3 then (-(aWp t b v).1, 40 :: (aWp t b v).2) else aWp t b v
def aSo (t : St) (b : Nat) (v : Int32) : VT :=
  if bk t b = 2 then ((v ^^^ nI b) * 5, [30, 11]) else if bk t b = 5 then ((v ^^^ nI b) + (aWe t b 1).1, 60 :: 11 :: (aWe t b 1).2) else (v ^^^ nI b, [11])
def aTp (t : St) (b : Nat) (v : Int32) : VT := ((aWe t b v).1 + (aSo t b 1).1, 2 :: (aWe t b v).2 ++ (aSo t b 1).2)
def aTe (t : St) (b : Nat) (v : Int32) : VT :=
  if bk t b = 5 then ((aTp t b (v + 1)).1 * 2, 61 :: 51 :: (aTp t b (v + 1)).2) else if bk t b = 4 then ((aTp t b (v + 1)).1, 51 :: (aTp t b (v + 1)).2) else aTp t b v
def aAc (t : St) (b : Nat) (w v : Int32) : VT := if w = 0 then aSt t b v else if w = 1 then aWe t b v else if w = 2 then aSo t b v else aTe t b v
def spAct (t : St) (b w v : Int32) : St × Int32 :=
  if ¬ (bt b 0 (nb t - 1) ∧ bt w 0 3) then (uN t 13 0, 0)
  else (uN (uI t 22 (fun i => nI ((aAc t (nt b) w v).2.getD i 0))) 13 (aAc t (nt b) w v).2.length, (aAc t (nt b) w v).1)
def spTrace (t : St) (i : Int32) : Int32 := if bt i 0 23 ∧ nt i < tr t then td t (nt i) else -1
def spBody (t : St) (k : Int32) : St × Int32 := if ¬ bt k 0 5 then (t, -1) else if nb t = 200 then (t, -3) else (uN (uA (uA t 2 (ux (bk t) (nb t) (nt k))) 3 (ux (li t) (nb t) 0)) 1 (nb t + 1), nI (nb t))
def spCount (t : St) (w : Int32) : Int32 := if w = 0 then nI (ns t) else if w = 1 then nI (nb t) else if w = 2 then nI (tl t) else if w = 3 then nI (dn t) else if w = 4 then nI (tr t) else if w = 5 then nI (sp t) else -1
/-! shelves -/
def spKeep (t : St) (s b : Int32) : St × Int32 := if ¬ (bt s 0 5 ∧ (b = -1 ∨ bt b 0 (nb t - 1))) then (t, -1) else (uI t 23 (ux (ho t) (nt s) b), 1)
def spRow (t : St) (s k n : Int32) : St × Int32 :=
  if ¬ (bt s 0 5 ∧ bt k 0 4 ∧ n.toInt ≤ 60) then (t, -1) else if n < 0 then (t, -14)
  else (uL (uA (uI t 23 (ux (ho t) (nt s) (-2 - k))) 11 (ux (sz t) (nt s) (nt n))) (blk (el t) 60 (nt s) (fun _ => 0)), 1)
def whyP (t : St) (s i : Int32) : Int32 := if ¬ bt s 0 5 then -1 else if ho t (nt s) = -1 then -11 else if 0 ≤ ho t (nt s) then -12 else if bt i 0 (sz t (nt s) - 1) then 0 else -13
def cutV (k : Nat) (v : Int64) : Int64 := if k = 0 then v.toInt32.toInt8.toInt32.toInt64 else if k = 1 then v.toInt32.toInt16.toInt32.toInt64 else if k = 2 then v.toInt32.toInt64 else if k = 3 then v else if v = 0 then 0 else 1
def spPlace (t : St) (s i : Int32) (v : Int64) : St × Int32 := if whyP t s i < 0 then (t, whyP t s i) else (uL t (ux (el t) (60 * nt s + nt i) (cutV (srt t (nt s)) v)), 1)
def spElem (t : St) (s i : Int32) : Int64 := if whyP t s i < 0 then Int64.minValue else el t (60 * nt s + nt i)
def spShift (t : St) (s i o j n : Int32) : St × Int32 :=
  if ¬ (bt s 0 5 ∧ bt o 0 5) then (t, -1) else if ho t (nt s) = -1 ∨ ho t (nt o) = -1 then (t, -11)
  else if 0 ≤ ho t (nt s) ∨ ho t (nt s) ≠ ho t (nt o) then (t, -12)
  else if n < 0 ∨ i < 0 ∨ j < 0 ∨ sz t (nt s) < nt i + nt n ∨ sz t (nt o) < nt j + nt n then (t, -13)
  else (uL t (fun q => if 60 * nt o + nt j ≤ q ∧ q < 60 * nt o + nt j + nt n then el t (60 * nt s + nt i + (q - (60 * nt o + nt j))) else el t q), n)
def undr (k a : Nat) : Bool := decide (a = 0 ∨ k = a ∨ a = 1 ∧ (k = 2 ∨ k = 4 ∨ k = 5) ∨ a = 4 ∧ k = 5)
def spTaken (t : St) (s k : Int32) : Int32 :=
  if ¬ (bt s 0 5 ∧ bt k 0 5) then -1 else if ho t (nt s) = -1 then -11
  else if 0 ≤ ho t (nt s) ∧ undr (bk t (nt (ho t (nt s)))) (nt k) then nI (bk t (nt (ho t (nt s)))) else -12
