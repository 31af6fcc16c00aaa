/-! what the public questions and orders answer, and what stands behind them -/
set_option maxRecDepth 100000
def inP (v lo hi : Int32) : Prop := ¬ v < lo ∧ ¬ hi < v
abbrev RES := Int32 × tab × List tab
/-- done: what stood is kept -/
def kp (U : List tab) (σ : tab) (a : Int32) (τ : tab) : RES := (a, τ, pushU U σ)
def no (U : List tab) (σ : tab) (a : Int32) : RES := (a, σ, U)
noncomputable def heapO (n : Nat → Nat) (σ : tab) (g : Int32) : Int32 := zi (vp_in g (n 0)) (σ 0 g.toNatClampNeg) (-1)
noncomputable def holeO (n : Nat → Nat) (σ : tab) (h g : Int32) : Int32 := zi (vp_in h (n 1) ∧ vp_in g (n 0)) (σ (30 + h.toNatClampNeg) g.toNatClampNeg) (-1)
def ratW (σ : tab) (r : Nat) (w : Int32) : Int32 :=
  if w = 0 then σ 3 r else if w = 1 then σ 4 r else if w = 2 then σ 5 r else if w = 3 then σ 6 r else if w = 4 then σ 8 r else if w = 5 then σ 9 r else if w = 6 then σ 10 r else if w = 7 then σ 11 r else if w = 8 then σ 7 r else -1
noncomputable def ratO (n : Nat → Nat) (σ : tab) (r w : Int32) : Int32 := zi (vp_in r (n 2)) (ratW σ r.toNatClampNeg w) (-1)
noncomputable def worthO (n : Nat → Nat) (t σ : tab) (h : Int32) : Int32 := zi (vp_in h (n 1)) (worthP t σ h.toNatClampNeg) (-1)
def pureP (t σ : tab) (h : Nat) (b : Int32) : Int32 :=
  let own := (σ (30 + h) (t 3 h).toNatClampNeg).toNatClampNeg
  let all := (inHoleP σ h).toNatClampNeg
  if all = 0 then (if b = 0 then 0 else 1) else nI ((if b = 0 then own else all) / Nat.gcd own all)
noncomputable def pureO (n : Nat → Nat) (t σ : tab) (h b : Int32) : Int32 := zi (vp_in h (n 1)) (pureP t σ h.toNatClampNeg b) (-1)
noncomputable def minutesO (n : Nat → Nat) (lw : Nat → Option LAW) (t σ : tab) (U : List tab) (k : Int32) : RES :=
  zi (inP k 0 600) (zi (k = 0) (no U σ (σ 13 0)) (kp U σ (runsP n lw t σ k.toNatClampNeg 13 0) (runsP n lw t σ k.toNatClampNeg))) (no U σ (-1))
def pourT (σ : tab) (g : Nat) (k : Int32) : tab := sU 0 g (σ 0 g + k) σ
noncomputable def pourO (n : Nat → Nat) (σ : tab) (U : List tab) (g k : Int32) : RES :=
  zi (vp_in g (n 0) ∧ inP k 1 9999 ∧ σ 0 g.toNatClampNeg + k ≤ 9999) (kp U σ (σ 0 g.toNatClampNeg + k) (pourT σ g.toNatClampNeg k)) (no U σ (-1))
noncomputable def swapO (n : Nat → Nat) (σ : tab) (U : List tab) (a b : Int32) : RES :=
  zi (vp_in a (n 1) ∧ vp_in b (n 1) ∧ ¬ a = b) (kp U σ 1 (swapTo σ a.toNatClampNeg b.toNatClampNeg 6)) (no U σ 0)
noncomputable def teachO (n : Nat → Nat) (σ : tab) (U : List tab) (r g : Int32) : RES :=
  zi (vp_in r (n 2) ∧ vp_in g (n 0) ∧ ¬ σ 10 r.toNatClampNeg = g) (kp U σ 1 (sU 10 r.toNatClampNeg g σ)) (no U σ 0)
def giveT (σ : tab) (r g : Nat) (k : Int32) : tab :=
  sU 9 r (if σ 9 r < 9 then σ 9 r + 1 else σ 9 r) (sU 8 r 0 (sS 14 (σ 14 0 + k) (sU 0 g (σ 0 g - k) σ)))
noncomputable def giveO (n : Nat → Nat) (σ : tab) (U : List tab) (r g k : Int32) : RES :=
  zi (vp_in r (n 2) ∧ vp_in g (n 0) ∧ inP k 1 (σ 0 g.toNatClampNeg) ∧ σ 3 r.toNatClampNeg = 0) (kp U σ 1 (giveT σ r.toNatClampNeg g.toNatClampNeg k)) (no U σ 0)
def sendT (σ : tab) (r : Nat) (b : Int32) : tab := if b = 0 then sU 3 r 0 σ else homeP σ r
noncomputable def sendO (n : Nat → Nat) (σ : tab) (U : List tab) (r b : Int32) : RES :=
  zi (vp_in r (n 2) ∧ ¬ zb (σ 3 r.toNatClampNeg = 3) = b) (kp U σ 1 (sendT σ r.toNatClampNeg b)) (no U σ 0)
noncomputable def catO (σ : tab) (U : List tab) (k : Int32) : RES :=
  zi (inP k 1 99 ∧ σ 12 0 + k ≤ 999) (kp U σ (σ 12 0 + k) (sS 12 (σ 12 0 + k) σ)) (no U σ (-1))
/-- grains of a sort go out of their own holes: what stands, and how many must go out yet -/
def outTo (t : tab) (σ : tab) (g : Nat) (left : Int32) : Nat → tab × Int32
  | 0 => (σ, left)
  | h + 1 =>
    let s := outTo t σ g left h
    if t 3 h = nI g then
      let v := if s.1 (30 + h) g < s.2 then s.1 (30 + h) g else s.2
      (sU (30 + h) g (s.1 (30 + h) g - v) s.1, s.2 - v)
    else s
noncomputable def outsTo (n : Nat → Nat) (t σ : tab) (set : Int32) : Nat → tab
  | 0 => σ
  | g + 1 => (outTo t (outsTo n t σ set g) g (wantTo t set g (n 3)) (n 1)).1
def setOf (m : Int32) : Int32 := (1 : Int32) <<< (m &&& 31)
noncomputable def sellT (n : Nat → Nat) (t σ : tab) (m : Int32) : tab :=
  sS 16 (σ 16 0 ||| setOf m) (sS 15 (σ 15 0 + t 8 m.toNatClampNeg) (outsTo n t σ (setOf m) 6))
noncomputable def sellO (n : Nat → Nat) (t σ : tab) (U : List tab) (m : Int32) : RES :=
  zi (vp_in m (n 3) ∧ ¬ bitP (σ 16 0) m.toNatClampNeg ∧ enoughP n t σ (setOf m)) (kp U σ 1 (sellT n t σ m)) (no U σ 0)
noncomputable def saleTo (n : Nat → Nat) (t σ : tab) : Nat → Int32
  | 0 => 0
  | k + 1 => zi ((nI (k + 1) &&& σ 16 0) = 0 ∧ enoughP n t σ (nI (k + 1)) ∧ paysTo t (saleTo n t σ k) (n 3) < paysTo t (nI (k + 1)) (n 3)) (nI (k + 1)) (saleTo n t σ k)
noncomputable def salesO (n : Nat → Nat) (t σ : tab) (w : Int32) : Int32 :=
  zi (inP w 0 1) (if w = 0 then paysTo t (saleTo n t σ (2 ^ n 3 - 1)) (n 3) else saleTo n t σ (2 ^ n 3 - 1)) (-1)
def thenW (n : Nat → Nat) (t τ : tab) (w : Int32) : Int32 :=
  if w = 0 then worthTo t τ (n 1) else if w = 1 then τ 14 0 else if w = 2 then inHeapP τ else if w = 3 then sortedTo t τ true (n 1) else if w = 4 then sortedTo t τ false (n 1) else τ 17 0
noncomputable def thenO (n : Nat → Nat) (lw : Nat → Option LAW) (t σ : tab) (k w : Int32) : Int32 :=
  zi (inP k 0 600 ∧ inP w 0 5) (thenW n t (runsP n lw t σ k.toNatClampNeg) w) (-1)
def liesW (τ : tab) (h : Int32) (g : Nat) : Int32 := if h = -1 then τ 0 g else τ (30 + h.toNatClampNeg) g
noncomputable def liesO (n : Nat → Nat) (lw : Nat → Option LAW) (t σ : tab) (k h g : Int32) : Int32 :=
  zi (inP k 0 600 ∧ (h = -1 ∨ vp_in h (n 1)) ∧ vp_in g (n 0)) (liesW (runsP n lw t σ k.toNatClampNeg) h g.toNatClampNeg) (-1)
def hskip (n : Nat → Nat) (fe : Int32 → Int32) (b s : Int32) : Prop := ¬ b < 0 ∧ (fe b < fe s ∨ fe s = fe b ∧ bitsTo b 8 ≤ bitsTo s 8)
noncomputable def hireTo (n : Nat → Nat) (lw : Nat → Option LAW) (t σ : tab) (k : Nat) : Nat → Int32
  | 0 => -2
  | j + 1 => zi (hskip n (fun s => feesTo t s (n 2)) (hireTo n lw t σ k j) (nI j) ∨ ¬ cleanP n (runsP n lw t (hiresTo σ (nI j) (n 2)) k) true) (hireTo n lw t σ k j) (nI j)
noncomputable def hireW (n : Nat → Nat) (t : tab) (b w : Int32) : Int32 := zi (b < 0 ∨ w = 1) b (feesTo t b (n 2))
noncomputable def hireO (n : Nat → Nat) (lw : Nat → Option LAW) (t σ : tab) (k w : Int32) : Int32 :=
  zi (inP k 1 300 ∧ inP w 0 1) (hireW n t (hireTo n lw t σ k.toNatClampNeg (2 ^ n 2)) w) (-1)
def farT (σ : tab) (a b : Nat) : tab := sA 1 (upd (upd (σ 1) a (σ 1 b)) b (σ 1 a)) σ
noncomputable def swStep (n : Nat → Nat) (lw : Nat → Option LAW) (t σ : tab) (a b : Nat) (s : Int32 × Int32) : Int32 × Int32 :=
  zi (cleanByP n lw t (farT σ a b) < 0 ∨ ¬ s.2 < 0 ∧ s.2 ≤ cleanByP n lw t (farT σ a b)) s (nI (10 * a + b), cleanByP n lw t (farT σ a b))
noncomputable def swIn (n : Nat → Nat) (lw : Nat → Option LAW) (t σ : tab) (a : Nat) (s : Int32 × Int32) : Nat → Int32 × Int32
  | 0 => s
  | j + 1 => swStep n lw t σ a (a + 1 + j) (swIn n lw t σ a s j)
noncomputable def swOut (n : Nat → Nat) (lw : Nat → Option LAW) (t σ : tab) : Nat → Int32 × Int32
  | 0 => (-2, cleanByP n lw t σ)
  | a + 1 => swIn n lw t σ a (swOut n lw t σ a) (n 1 - (a + 1))
noncomputable def bestSwapO (n : Nat → Nat) (lw : Nat → Option LAW) (t σ : tab) (w : Int32) : Int32 :=
  zi (inP w 0 1) (if w = 0 then (swOut n lw t σ (n 1)).1 else (swOut n lw t σ (n 1)).2) (-1)
noncomputable def msTo (n : Nat → Nat) (lw : Nat → Option LAW) (t σ : tab) (k : Nat) : Nat → Int32 × Int32
  | 0 => (-2, -2)
  | r + 1 => zi (σ 3 r = 3 ∨ ¬ (msTo n lw t σ k r).1 < 0 ∧ (msTo n lw t σ k r).2 ≤ worthTo t (runsP n lw t (homeP σ r) k) (n 1)) (msTo n lw t σ k r) (nI r, worthTo t (runsP n lw t (homeP σ r) k) (n 1))
noncomputable def missedO (n : Nat → Nat) (lw : Nat → Option LAW) (t σ : tab) (k w : Int32) : Int32 :=
  zi (inP k 0 600 ∧ inP w 0 1) (if w = 0 then (msTo n lw t σ k.toNatClampNeg (n 2)).1 else (msTo n lw t σ k.toNatClampNeg (n 2)).2) (-1)
def cat10 (τ : tab) : tab := sS 12 (τ 12 0 + 10) τ
noncomputable def catV (n : Nat → Nat) (lw : Nat → Option LAW) (t σ : tab) (N k : Nat) : Int32 := worthTo t (runsP n lw t (cat10 (runsP n lw t σ k)) (N + 10 - k)) (n 1)
noncomputable def caTo (n : Nat → Nat) (lw : Nat → Option LAW) (t σ : tab) (N : Nat) : Nat → Int32 × Int32
  | 0 => (0, -1)
  | k + 1 => zi (catV n lw t σ N k ≤ (caTo n lw t σ N k).2) (caTo n lw t σ N k) (nI k, catV n lw t σ N k)
noncomputable def catAtO (n : Nat → Nat) (lw : Nat → Option LAW) (t σ : tab) (k w : Int32) : Int32 :=
  zi (inP k 1 120 ∧ inP w 0 1) (if w = 0 then (caTo n lw t σ k.toNatClampNeg k.toNatClampNeg).1 else (caTo n lw t σ k.toNatClampNeg k.toNatClampNeg).2) (-1)
noncomputable def stFrom (n : Nat → Nat) (lw : Nat → Option LAW) (t : tab) (r : Nat) : Nat → Nat → tab → Int32
  | 0, _, _ => -2
  | f + 1, k, σ => zi (σ 8 r = 99) (nI k) (stFrom n lw t r f (k + 1) (minuteP n lw t σ))
noncomputable def starvesO (n : Nat → Nat) (lw : Nat → Option LAW) (t σ : tab) (r : Int32) : Int32 := zi (vp_in r (n 2)) (stFrom n lw t r.toNatClampNeg 601 0 σ) (-1)
noncomputable def meanTo (n : Nat → Nat) (lw : Nat → Option LAW) (t σ : tab) (k : Nat) : Nat → Int32
  | 0 => 0
  | j + 1 => meanTo n lw t σ k j + sortedTo t (runsP n lw t (sS 18 (t 12 2 + nI j) σ) k) false (n 1)
noncomputable def meanO (n : Nat → Nat) (lw : Nat → Option LAW) (t σ : tab) (s k : Int32) : Int32 :=
  zi (inP s 1 20 ∧ inP k 0 600) (meanTo n lw t σ k.toNatClampNeg s.toNatClampNeg) (-1)
/-! teaching: lessons of a set, the first rat's counts most -/
noncomputable def ranksTo (set : Int32) : Nat → Nat
  | 0 => 0
  | r + 1 => zi (bitP set r) (ranksTo set r + 1) (ranksTo set r)
def lessonP (G L w i : Nat) : Nat := w / G ^ (L - 1 - i) % G
noncomputable def teachTo (G L w : Nat) (set : Int32) (σ : tab) : Nat → tab
  | 0 => σ
  | r + 1 => zi (bitP set r) (sU 10 r (nI (lessonP G L w (ranksTo set r))) (teachTo G L w set σ r)) (teachTo G L w set σ r)
noncomputable def wayV (n : Nat → Nat) (lw : Nat → Option LAW) (t σ : tab) (set : Int32) (k w : Nat) : Int32 :=
  worthTo t (runsP n lw t (teachTo (n 0) (ranksTo set (n 2)) w set σ (n 2)) k) (n 1)
noncomputable def wayTo (n : Nat → Nat) (lw : Nat → Option LAW) (t σ : tab) (set : Int32) (k : Nat) : Nat → Int32 × Int32
  | 0 => (-1, -1)
  | w + 1 => zi (wayV n lw t σ set k w ≤ (wayTo n lw t σ set k w).2) (wayTo n lw t σ set k w) (nI w, wayV n lw t σ set k w)
noncomputable def ways (n : Nat → Nat) (set : Int32) : Nat := n 0 ^ ranksTo set (n 2)
def isSetP (n : Nat → Nat) (set k : Int32) : Prop := inP set 1 (nI (2 ^ n 2) - 1) ∧ bitsTo set 8 ≤ 4 ∧ inP k 1 300
noncomputable def taughtO (n : Nat → Nat) (lw : Nat → Option LAW) (t σ : tab) (set k : Int32) : Int32 :=
  zi (isSetP n set k) (wayTo n lw t σ set k.toNatClampNeg (ways n set)).2 (-1)
noncomputable def taughtAtO (n : Nat → Nat) (lw : Nat → Option LAW) (t σ : tab) (set k i : Int32) : Int32 :=
  zi (isSetP n set k ∧ inP i 0 (bitsTo set 8 - 1)) (nI (lessonP (n 0) (ranksTo set (n 2)) (wayTo n lw t σ set k.toNatClampNeg (ways n set)).1.toNatClampNeg i.toNatClampNeg)) (-1)
/-! what was weighed: rows 0 hole, 1 grain, 2 minute, 3 how many -/
noncomputable def tellO (n : Nat → Nat) (c : Nat) (T : tab) (h g k m : Int32) : Int32 × Nat × tab :=
  zi (¬ c = 20 ∧ vp_in h (n 1) ∧ vp_in g (n 0) ∧ inP k 0 99 ∧ inP m 0 9999) (nI c, c + 1, sU 3 c m (sU 2 c k (sU 1 c g (sU 0 c h T)))) (-1, c, T)
/-- how many minutes are looked at -/
def lastTo (T : tab) : Nat → Nat
  | 0 => 0
  | i + 1 => if lastTo T i < (T 2 i).toNatClampNeg + 1 then (T 2 i).toNatClampNeg + 1 else lastTo T i
def soAt (T τ : tab) (k m : Nat) : Prop := ∀ i, i < k → T 2 i = nI m → τ (30 + (T 0 i).toNatClampNeg) (T 1 i).toNatClampNeg = T 3 i
def soSw (a b wh m : Nat) (τ : tab) : tab := if m = wh ∧ ¬ a = b then swapTo τ a b 6 else τ
noncomputable def soFrom (n : Nat → Nat) (lw : Nat → Option LAW) (t T : tab) (k a b wh : Nat) : Nat → Nat → tab → Prop
  | 0, _, _ => True
  | f + 1, m, τ => soAt T (soSw a b wh m τ) k m ∧ soFrom n lw t T k a b wh f (m + 1) (minuteP n lw t (soSw a b wh m τ))
noncomputable def soP (n : Nat → Nat) (lw : Nat → Option LAW) (t T : tab) (k a b wh : Nat) : Prop := soFrom n lw t T k a b wh (lastTo T k) 0 (beginP n t)
/-- jokes: how many were counted; the one that was asked for, once it is met -/
noncomputable def jkStep (P : Prop) (i : Int32) (ans : Int32) (s : Int32 × Option Int32) : Int32 × Option Int32 :=
  match s.2 with
  | some _ => s
  | none => zi P (if s.1 = i then (s.1, some ans) else (s.1 + 1, none)) s
noncomputable def jkW (n : Nat → Nat) (lw : Nat → Option LAW) (t T : tab) (k : Nat) (i : Int32) (a b : Nat) (s : Int32 × Option Int32) : Nat → Int32 × Option Int32
  | 0 => s
  | w + 1 => jkStep (soP n lw t T k a b w) i (nI (1000 * a + 100 * b + w)) (jkW n lw t T k i a b s w)
noncomputable def jkB (n : Nat → Nat) (lw : Nat → Option LAW) (t T : tab) (k : Nat) (i : Int32) (a : Nat) (s : Int32 × Option Int32) : Nat → Int32 × Option Int32
  | 0 => s
  | j + 1 => jkW n lw t T k i a (a + 1 + j) (jkB n lw t T k i a s j) 61
noncomputable def jkA (n : Nat → Nat) (lw : Nat → Option LAW) (t T : tab) (k : Nat) (i : Int32) (s : Int32 × Option Int32) : Nat → Int32 × Option Int32
  | 0 => s
  | a + 1 => jkB n lw t T k i a (jkA n lw t T k i s a) (n 1 - (a + 1))
noncomputable def jokesW (n : Nat → Nat) (lw : Nat → Option LAW) (t T : tab) (k : Nat) (i : Int32) : Int32 :=
  let s := jkA n lw t T k i (jkStep (soP n lw t T k 0 0 0) i (-3) (0, none)) (n 1)
  match s.2 with
  | some v => v
  | none => if i = -1 then s.1 else -1
noncomputable def jokesO (n : Nat → Nat) (lw : Nat → Option LAW) (t : tab) (c : Nat) (T : tab) (k i : Int32) : Int32 :=
  zi (inP k 0 (nI c) ∧ ¬ i < -1) (jokesW n lw t T k.toNatClampNeg i) (-1)
/-! slots, counts -/
noncomputable def homesTo (σ : tab) : Nat → Int32
  | 0 => 0
  | r + 1 => zi (σ 3 r = 3) (homesTo σ r ||| setOf (nI r)) (homesTo σ r)
def carryTo (σ : tab) : Nat → Int32
  | 0 => 0
  | r + 1 => carryTo σ r + σ 5 r
def holesTo (σ : tab) : Nat → Int32
  | 0 => 0
  | h + 1 => holesTo σ h + inHoleP σ h
def heldN (hd : Nat → Option tab) : Int32 := (if (hd 0).isSome then 1 else 0) + (if (hd 1).isSome then 1 else 0) + (if (hd 2).isSome then 1 else 0)
noncomputable def countO (n : Nat → Nat) (σ : tab) (tp un c : Nat) (hd : Nat → Option tab) (w : Int32) : Int32 :=
  if w = 0 then nI (n 0) else if w = 1 then nI (n 1) else if w = 2 then nI (n 2) else if w = 3 then nI (n 3)
  else if w = 4 then σ 13 0 else if w = 5 then σ 14 0 else if w = 6 then σ 15 0 else if w = 7 then σ 16 0
  else if w = 8 then homesTo σ (n 2) else if w = 9 then σ 12 0 else if w = 10 then σ 17 0 else if w = 11 then nI tp else if w = 12 then nI un else if w = 13 then nI c
  else if w = 14 then heldN hd else if w = 15 then inHeapP σ + holesTo σ (n 1) + carryTo σ (n 2) else -1
/-- the model's now and history -/
def KN (k : Nat) (σ : tab) (U : List tab) (X Hs : Nat → Int32) (un : Nat) : Prop := MR k σ X ∧ HI k U Hs ∧ un = U.length ∧ U.length ≤ 40
theorem KN.mr {k : Nat} {σ : tab} {U : List tab} {X Hs : Nat → Int32} {un : Nat} (h : KN k σ U X Hs un) : MR k σ X := h.1
theorem KN.push {k : Nat} {σ τ : tab} {U : List tab} {X Hs X' Hs' : Nat → Int32} {un un' : Nat} (h : KN k σ U X Hs un) (hk : k ≤ 8) (hm : MR k τ X') (hu : un' = if un = 40 then 40 else un + 1)
    (hh : ∀ i j, i + 1 < un' → j < 120 → Hs' (120 * i + j) = Hs (120 * (if un = 40 then i + 1 else i) + j)) (hl : ∀ j, j < 120 → Hs' (120 * (un' - 1) + j) = X j) : KN k τ (pushU U σ) X' Hs' un' := by
  obtain ⟨h1, h2, rfl, h4⟩ := h
  have hlen : (pushU U σ).length = un' := by
    unfold pushU; rw [hu]; split
    · rw [List.length_append, List.length_tail]; simp; omega
    · rw [List.length_append]; rfl
  refine ⟨hm, fun i τ' hi => ?_, hlen.symm, by rw [hlen, hu]; split <;> omega⟩
  have hi2 : i < un' := by
    rw [← hlen]; exact (List.getElem?_eq_some_iff.mp hi).1
  by_cases e : i + 1 = un'
  · have et : τ' = σ := by
      have : (pushU U σ)[i]? = some σ := by
        unfold pushU at hlen ⊢
        rw [List.length_append] at hlen
        rw [List.getElem?_append_right (by simp at hlen; omega)]
        simp at hlen
        rw [show i - (if U.length = 40 then U.tail else U).length = 0 by omega]; rfl
      rw [this] at hi; cases hi; rfl
    rw [et]
    exact h1.copy hk (fun j hj => by show Hs' (120 * i + j) = X j; rw [show i = un' - 1 by omega]; exact hl j hj)
  · have hget : U[if U.length = 40 then i + 1 else i]? = some τ' := by
      unfold pushU at hi hlen
      rw [List.length_append] at hlen
      rw [List.getElem?_append_left (by simp at hlen; omega)] at hi
      split at hi
      · next q => rw [if_pos q]; rw [List.getElem?_tail] at hi; exact hi
      · next q => rw [if_neg q]; exact hi
    exact (h2 _ _ hget).copy hk (fun j hj => hh i j (by omega) hj)
theorem inP_nat {x : Int32} {a b : Nat} (h : inP x (nI a) (nI b)) (hb : b < 2 ^ 31) (ha : a < 2 ^ 31) : ∃ k : Nat, a ≤ k ∧ k ≤ b ∧ x = nI k := by
  obtain ⟨h1, h2⟩ := h
  have h0 : ¬ x < 0 := fun q => h1 (Int32.lt_of_lt_of_le q (Int32.not_lt.mp (nI_pos ha)))
  obtain ⟨j, hj, rfl⟩ := nI_of h0
  refine ⟨j, Nat.le_of_not_lt fun q => h1 ((nI_ltI hj ha).mpr q), Nat.le_of_not_lt fun q => h2 ((nI_ltI hb hj).mpr q), rfl⟩
