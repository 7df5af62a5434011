/-! (S): kinds, claims, threads, the invariant -/
/-- a kind: tag, number, offset. Registers: 0 any, 1 the number x, 2 W + x, 3 below n, 4 W + x + i with i < n, 5 what word x holds, 6 the same + i with i < n, 7 the place of instruction n, 8 the way from x to n, 9 itself, 10 never.
    Words: 0 nothing, 1 data, 2 channel with rights n, 10 + r holds a value of register kind r, 20 kept, 21 holds the address of n data words, 22 holds the address of a channel with rights n -/
abbrev Kd := Nat × Nat × Int
/-- at a position: words' kinds by offset; registers' kinds; interval (below, above); unit (0 root; 1 PROC, where its return word lies; 2 branch, how far above the parent's W lies, the header's offset there);
    ALT (offset of its words, guards (has a channel, where it leads), how many are enabled, disabled, the base of its ways or 0 while they are enabled); PAR (in a header: 1 + where it goes on; those not yet started: distance, position, row); rights on wires -/
abbrev Sg := (Int → Kd) × (Kd × Kd × Kd) × (Nat × Nat) × (Nat × Int × Int) × (Int × List (Bool × Nat) × Nat × Nat × Nat) × (Nat × List (Nat × Nat × Nat)) × (Nat → Nat)
def zG (z : Sg) : Int → Kd := z.1
def zA (z : Sg) : Kd × Kd × Kd := z.2.1
def zI (z : Sg) : Nat × Nat := z.2.2.1
def zU (z : Sg) : Nat × Int × Int := z.2.2.2.1
def zL (z : Sg) : Int × List (Bool × Nat) × Nat × Nat × Nat := z.2.2.2.2.1
def zR (z : Sg) : Nat × List (Nat × Nat × Nat) := z.2.2.2.2.2.1
def zW (z : Sg) : Nat → Nat := z.2.2.2.2.2.2
/-- nothing is known of the registers -/
def rAny (z : Sg) : Prop := zA z = ((0, 0, 0), (0, 0, 0), (0, 0, 0))
/-- a frame: W, position, what is known there -/
abbrev Fm := Nat × Nat × Sg
/-- owner, role (1 data, 2 channel, 3 held, 4 control), who may send, who may take -/
abbrev Gh := (Nat → Nat) × (Nat → Nat) × (Nat → Nat) × (Nat → Nat)
/-- wires where the core may send, take -/
abbrev En := (Nat → Prop) × (Nat → Prop)
/-- frames; status, channel, row; interval; those above; children; its header's offset and where it goes on -/
abbrev Th := List Fm × (Nat × Nat × Nat) × (Nat × Nat) × List Nat × List Nat × (Int × Nat)
abbrev Thr := Nat → Option Th
def thF (th : Th) : List Fm := th.1
def thS (th : Th) : Nat := th.2.1.1
def thC (th : Th) : Nat := th.2.1.2.1
def thP (th : Th) : Nat := th.2.1.2.2
def thL (th : Th) : Nat := th.2.2.1.1
def thH (th : Th) : Nat := th.2.2.1.2
def thA (th : Th) : List Nat := th.2.2.2.1
def thK (th : Th) : List Nat := th.2.2.2.2.1
def thO (th : Th) : Int × Nat := th.2.2.2.2.2
/-- b is t or lies below t -/
def bel (Q : Thr) (t b : Nat) : Prop := b = t ∨ ∃ th, Q b = some th ∧ t ∈ thA th
def okD (M : Nat) (g : Gh) (A : List Nat) (a : Nat) : Prop := 16 ≤ a ∧ a < M ∧ g.2.1 a = 1 ∧ g.1 a ∈ A
def okH (M : Nat) (g : Gh) (Q : Thr) (A : List Nat) (t m a : Nat) : Prop := a < M ∧ g.2.1 a = 2 ∧ g.1 a ∈ A ∧ (m &&& 4 ≠ 0 → bel Q t (g.2.2.1 a)) ∧ (m &&& 8 ≠ 0 → bel Q t (g.2.2.2 a))
/-- a value is of a kind -/
def rk (pl : Nat → Nat) (G : Int → Kd) (m : Nat → Int32) (pri W : Nat) (k : Kd) (v : Int32) : Prop := match k.1 with
  | 0 => True
  | 1 => v.toInt = k.2.2
  | 2 => v.toInt = W + k.2.2
  | 3 => 0 ≤ v.toInt ∧ v.toInt < k.2.1
  | 4 => ∃ i : Nat, i < k.2.1 ∧ v.toInt = W + k.2.2 + i
  | 5 => 10 ≤ (G k.2.2).1 ∧ v = m (W + k.2.2).toNat
  | 6 => 10 ≤ (G k.2.2).1 ∧ ∃ i : Nat, i < k.2.1 ∧ v = m (W + k.2.2).toNat + nI i
  | 7 => v = nI (pl k.2.1)
  | 8 => v = nI (pl k.2.1) - nI (pl k.2.2.toNat)
  | 9 => v = nI (2 * W + pri)
  | _ => False
/-- a word that is held -/
def hk (pl : Nat → Nat) (M : Nat) (g : Gh) (Q : Thr) (A : List Nat) (t pri : Nat) (G : Int → Kd) (m : Nat → Int32) (W hi : Nat) (k : Kd) (v : Int32) : Prop :=
  (k.1 ≤ 19 → rk pl G m pri W (k.1 - 10, k.2) v) ∧ (k.1 = 21 → ∃ a, v = nI a ∧ W + hi ≤ a ∧ ∀ i, i < k.2.1 → okD M g A (a + i)) ∧ (k.1 = 22 → ∃ a, v = nI a ∧ (W + hi ≤ a ∨ a < 16) ∧ okH M g Q A t k.2.1 a)
/-- a word is of a kind -/
def wk (pl : Nat → Nat) (M : Nat) (g : Gh) (Q : Thr) (A : List Nat) (t pri : Nat) (G : Int → Kd) (m : Nat → Int32) (W hi : Nat) (off : Int) : Prop := (G off).1 = 0 ∨ (0 ≤ W + off ∧ 16 ≤ (W + off).toNat ∧
  ((G off).1 = 1 ∧ okD M g A (W + off).toNat ∨ (G off).1 = 2 ∧ okH M g Q A t (G off).2.1 (W + off).toNat ∨
   10 ≤ (G off).1 ∧ (W + off).toNat < M ∧ g.2.1 (W + off).toNat = 3 ∧ g.1 (W + off).toNat ∈ A ∧ hk pl M g Q A t pri G m W hi (G off) (m (W + off).toNat)))
/-- the address of a channel that word o is or holds; its rights -/
def adS (G : Int → Kd) (m : Nat → Int32) (W : Nat) (o : Int) : Nat := if (G o).1 = 22 then (m (W + o).toNat).toNatClampNeg else (W + o).toNat
def btS (k : Kd) : Nat := if k.1 = 2 ∨ k.1 = 22 then k.2.1 else 0
def inj (G : Int → Kd) (m : Nat → Int32) (W : Nat) (wr : Nat → Nat) : Prop := (∀ o o', o ≠ o' → btS (G o) &&& btS (G o') ≠ 0 → adS G m W o ≠ adS G m W o') ∧ ∀ o c, c < 14 → btS (G o) &&& wr c ≠ 0 → adS G m W o ≠ c
section
variable (C : Cx) (M : Nat) (s : Cr) (w : Wd) (g : Gh) (Q : Thr)
/-- a frame: its interval lies in the thread's, its words are of their kinds -/
def fOK (t : Nat) (th : Th) (f : Fm) : Prop := 3 ≤ (zI f.2.2).1 ∧ thL th + (zI f.2.2).1 ≤ f.1 ∧ f.1 + (zI f.2.2).2 ≤ thH th ∧ (∀ off, wk C.2 M g Q (t :: thA th) t (thP th) (zG f.2.2) s.2.1 f.1 (zI f.2.2).2 off) ∧ (∀ c, c < 14 → okH M g Q (t :: thA th) t (zW f.2.2 c) c) ∧ inj (zG f.2.2) s.2.1 f.1 (zW f.2.2)
/-- the four words of a process -/
def ctl (t W n : Nat) : Prop := ∀ k, k ≤ n → g.2.1 (W - k) = 4 ∧ g.1 (W - k) = t
/-- calls: a frame's return word lies ahead of the caller's W, the caller's words lie above it -/
def lnk (t : Nat) : List Fm → Prop
  | [] => False
  | [f] => (zU f.2.2).1 ≠ 1
  | f :: f1 :: r => (zU f.2.2).1 = 1 ∧ (f1.1 : Int) = f.1 + (zU f.2.2).2.1 + 4 ∧ f.1 + (zI f.2.2).2 + 4 ≤ f1.1 ∧ s.2.1 (f1.1 - 4) = nI (C.2 f1.2.1) ∧ ctl g t f1.1 4 ∧ rAny f1.2.2 ∧ (zL f1.2.2).2.1 = [] ∧ ((zR f1.2.2).1 = 0 ∧ 1 ≤ (zI f1.2.2).2) ∧ (∀ off, (zG f1.2.2 off).1 ≠ 0 → 0 < off) ∧ lnk t (f1 :: r)
/-- is there something to take at a -/
def hasC (a : Nat) (self : Int32) : Prop := if a = 13 then ¬ w.1 1 ≤ w.1 2 else if a < 12 then w.2.1 a 4 = 4 else s.2.1 a ≠ -1 ∧ s.2.1 a ≠ self
/-- guard i of an ALT at W (words from offset o on): it is open; its channel; it has something -/
def gOpn (W : Nat) (o : Int) (i : Nat) : Prop := s.2.1 (W + o + 2 * i).toNat ≠ 0
def gCh (W : Nat) (o : Int) (i : Nat) : Nat := (s.2.1 (W + o + 2 * i + 1).toNat).toNatClampNeg
def gAv (W : Nat) (o : Int) (gs : List (Bool × Nat)) (self : Int32) (i : Nat) : Prop := gOpn s W o i ∧ ∃ b n, gs[i]? = some (b, n) ∧ (b = true → hasC s w (gCh s W o i) self)
/-- the words of an ALT are kept, its channels are channels -/
def aRl (A : List Nat) (t W : Nat) (z : Sg) : Prop := ∀ (i : Nat) (b : Bool) (n : Nat), (zL z).2.1[i]? = some (b, n) → (g.2.1 (W + (zL z).1 + 2 * i).toNat = 3 ∧ g.1 (W + (zL z).1 + 2 * i).toNat ∈ A) ∧
  (b = true → (g.2.1 (W + (zL z).1 + 2 * i + 1).toNat = 3 ∧ g.1 (W + (zL z).1 + 2 * i + 1).toNat ∈ A) ∧ g.2.1 (gCh s W (zL z).1 i) = 2 ∧ g.1 (gCh s W (zL z).1 i) ∈ A ∧ g.2.2.2 (gCh s W (zL z).1 i) = t ∧ s.2.1 (W + (zL z).1 + 2 * i + 1).toNat = nI (gCh s W (zL z).1 i))
/-- within an ALT -/
def aOK (A : List Nat) (t W : Nat) (z : Sg) (pri st : Nat) : Prop := (zL z).2.1 ≠ [] → aRl s g A t W z ∧ (s.2.1 (W - 3) = 1 ∨ s.2.1 (W - 3) = 2 ∨ s.2.1 (W - 3) = 3) ∧ (s.2.1 (W - 3) = 2 ↔ st = 4) ∧
  (s.2.1 (W - 3) = 3 → s.2.1 W ≠ -1 ∨ ∃ i, (zL z).2.2.2.1 ≤ i ∧ i < (zL z).2.2.1 ∧ gAv s w W (zL z).1 (zL z).2.1 (nI (2 * W + pri)) i) ∧
  (s.2.1 W ≠ -1 → ∃ (i : Nat) (b : Bool) (n : Nat), (zL z).2.1[i]? = some (b, n) ∧ s.2.1 W = nI (C.2 n) - nI (C.2 (zL z).2.2.2.2)) ∧
  ((zL z).2.2.2.2 = 0 → s.2.1 W = -1) ∧ ((zL z).2.2.2.2 ≠ 0 → st ≠ 4 → s.2.1 (W - 3) = 3)
/-- c is a channel where a process in ALT is enabled -/
def aEn (W : Nat) (z : Sg) (c : Nat) : Prop := ∃ (i n : Nat), (zL z).2.2.2.1 ≤ i ∧ i < (zL z).2.2.1 ∧ (zL z).2.1[i]? = some (true, n) ∧ gOpn s W (zL z).1 i ∧ gCh s W (zL z).1 i = c
/-- registers are of their kinds -/
def rOK (m : Nat → Int32) (pri W : Nat) (z : Sg) (a b c : Int32) : Prop := rk C.2 (zG z) m pri W (zA z).1 a ∧ rk C.2 (zG z) m pri W (zA z).2.1 b ∧ rk C.2 (zG z) m pri W (zA z).2.2 c
/-- where it stands -/
def pos (j : Nat) (i o : Int32) : Prop := (i = nI (C.2 j) ∧ o = 0) ∨ ∃ f v k, C.1 j = some (f, v) ∧ k < lnV v ∧ i = nI (C.2 j + (lnV v - 1 - k)) ∧ o = opv v k
/-- what its status says: 0 runs, 1 ready, 2 waits to take, 3 waits to send, 4 waits in ALT, 5 stopped, 6 gone, 7 put aside, 8 not yet started -/
def sOK (t : Nat) (th : Th) (W j : Nat) (z : Sg) : Prop := match thS th with
  | 0 => ¬ s.1 14 = 0 ∧ s.1 12 = nI W ∧ s.1 15 = nI (thP th) ∧ pos C j (s.1 11) (s.1 13) ∧ rOK C s.2.1 (thP th) W z (s.1 8) (s.1 9) (s.1 10)
  | 1 => (if thP th = 0 then W ∈ s.2.2.1 else W ∈ s.2.2.2) ∧ s.2.1 (W - 1) = nI (C.2 j) ∧ rAny z
  | 2 => s.2.1 (thC th) = nI (2 * W + thP th) ∧ s.2.1 (W - 1) = nI (C.2 j) ∧ rAny z ∧ s.2.1 (W - 3) = 0 ∧ g.2.2.2 (thC th) = t ∧ g.2.1 (thC th) = 2 ∧ g.1 (thC th) ∈ t :: thA th ∧ ∃ a, s.2.1 (W - 2) = nI a ∧ okD M g (t :: thA th) a
  | 3 => s.2.1 (thC th) = nI (2 * W + thP th) ∧ s.2.1 (W - 1) = nI (C.2 j) ∧ rAny z ∧ s.2.1 (W - 3) = 0 ∧ g.2.2.1 (thC th) = t ∧ g.2.1 (thC th) = 2 ∧ g.1 (thC th) ∈ t :: thA th
  | 4 => s.2.1 (W - 1) = nI (C.2 j) ∧ rAny z ∧ (zL z).2.1 ≠ []
  | 5 => rAny z ∧ (zR z).1 = 0
  | 6 => True
  | 7 => thP th = 1 ∧ s.2.2.2.head? = some W ∧ ¬ s.1 22 = 0 ∧ s.1 23 = nI W ∧ pos C j (s.2.1 (W - 1)) (s.1 27) ∧ rOK C s.2.1 (thP th) W z (s.1 24) (s.1 25) (s.1 26)
  | 8 => rAny z
  | _ => False
/-- the header of its PAR -/
def hOK (t : Nat) (th : Th) (W j : Nat) : Prop := 1 ≤ (thO th).1 ∧ (∀ i : Nat, i < 3 → (W + (thO th).1 + i).toNat < M ∧ g.2.1 (W + (thO th).1 + i).toNat = 4 ∧ g.1 (W + (thO th).1 + i).toNat = t) ∧ s.2.1 (W + (thO th).1).toNat = nI (C.2 (thO th).2) ∧ s.2.1 (W + (thO th).1 + 1).toNat = nI (thK th).length ∧ s.2.1 (W + (thO th).1 + 2).toNat = nI (2 * W + thP th) ∧
  (thS th = 5 → j = (thO th).2) ∧ (thS th = 0 ∨ thS th = 5 ∨ thS th = 7)
/-- while it starts its children -/
def kOK (th : Th) : Prop := (∀ c ∈ thK th, ∀ tc, Q c = some tc → thP tc = thP th → thS tc = 1 ∨ thS tc = 8) ∧ ∃ c ∈ thK th, ∃ tc, Q c = some tc ∧ thP tc = thP th
def pOK (t : Nat) (th : Th) (W j : Nat) (z : Sg) : Prop := (thS th ≠ 5 → (zR z).1 = 0 → thK th = []) ∧ (thK th ≠ [] → (hOK C M s g t th W j ∧ (thO th).1 + 3 ≤ (zI z).2) ∧ (thS th ≠ 5 → kOK Q th)) ∧
  ((zR z).1 ≠ 0 → thS th ≠ 5 → (thK th ≠ [] ∧ (zR z).1 = (thO th).2 + 1) ∧ ∀ p ∈ (zR z).2, p.1 ≤ W ∧ ∃ c ∈ thK th, ∃ tc zc, Q c = some tc ∧ thS tc = 8 ∧ thF tc = [(W - p.1, p.2.1, zc)] ∧ thP tc = if p.2.2 = 0 then 0 else thP th)
/-- its place among the others -/
def uOK (t : Nat) (th : Th) : Prop := (thK th).Nodup ∧ (∀ c ∈ thK th, ∃ tc, Q c = some tc ∧ thA tc = t :: thA th) ∧ t ∉ thA th ∧
  ∃ f, (thF th).getLast? = some f ∧ f.1 = t ∧ match thA th with
    | [] => (zU f.2.2).1 = 0
    | u :: r => (zU f.2.2).1 = 2 ∧ ∃ tu fu ru, Q u = some tu ∧ thA tu = r ∧ t ∈ thK tu ∧ thF tu = fu :: ru ∧ (fu.1 : Int) = f.1 + (zU f.2.2).2.1 ∧ (thO tu).1 = (zU f.2.2).2.2
/-- a thread -/
def tOK (t : Nat) (th : Th) : Prop := ∃ W j z r, thF th = (W, j, z) :: r ∧ thP th ≤ 1 ∧ 16 ≤ thL th ∧ thH th ≤ M ∧ (∀ f ∈ thF th, fOK C M s g Q t th f) ∧ lnk C s g t (thF th) ∧ (∀ x, thL th ≤ x → x < thH th → bel Q t (g.1 x)) ∧ uOK Q t th ∧
  sOK C M s g t th W j z ∧ (thS th = 0 ∨ thS th = 1 ∨ thS th = 4 ∨ thS th = 7 → aOK C s w g (t :: thA th) t W z (thP th) (thS th)) ∧ (thS th = 2 ∨ thS th = 3 ∨ thS th = 5 ∨ thS th = 8 → (zL z).2.1 = []) ∧ pOK C M s g Q t th W j z ∧ ctl g t W 3 ∧ W < M
/-- c's word is th's -/
def dsC (th : Th) (c : Nat) : Prop := ∃ W j z r, thF th = (W, j, z) :: r ∧ s.2.1 c = nI (2 * W + thP th) ∧ ((thS th = 2 ∧ thC th = c) ∨ (thS th = 3 ∧ thC th = c) ∨ ((thS th = 0 ∨ thS th = 1 ∨ thS th = 4 ∨ thS th = 7) ∧ aEn s W z c))
/-- a channel's word -/
def cOK (c : Nat) : Prop := s.2.1 c = -1 ∨ ∃ t th, Q t = some th ∧ dsC s th c
/-- rows and who runs -/
def row : Prop := (¬ s.1 14 = 0 → ∃ t th, Q t = some th ∧ thS th = 0) ∧ (∀ t th t' th', Q t = some th → Q t' = some th' → thS th = 0 → thS th' = 0 → t = t') ∧ (∀ t th t' th', Q t = some th → Q t' = some th' → thS th = 7 → thS th' = 7 → t = t') ∧
  (∀ n, n ∈ s.2.2.1 → ∃ t th j r, Q t = some th ∧ thS th = 1 ∧ thP th = 0 ∧ thF th = (n, j) :: r) ∧ (∀ n, n ∈ s.2.2.2 → ∃ t th j r, Q t = some th ∧ (thS th = 1 ∨ thS th = 7) ∧ thP th = 1 ∧ thF th = (n, j) :: r) ∧ s.2.2.1.Nodup ∧ s.2.2.2.Nodup ∧
  (¬ s.1 22 = 0 → ∃ t th, Q t = some th ∧ thS th = 7) ∧ (¬ s.1 14 = 0 → ¬ s.1 15 = 0 → s.1 22 = 0) ∧ lo s
/-- wires: who may not send or take there; a sender that waits at a link; one that waits for a key -/
def wsO (E : En) : Prop := (∀ c, c < 14 → (¬ E.1 c → g.2.2.1 c = 5000) ∧ (¬ E.2 c → g.2.2.2 c = 5000)) ∧ (∀ c, c < 12 → E.1 c → (w.2.1 c 0 = 0 → w.2.1 c 2 = 0 ∧ w.2.1 c 3 = 0 ∧ ∀ b tb, Q b = some tb → thS tb = 3 → thC tb ≠ c) ∧ (¬ w.2.1 c 0 = 0 → ∃ b tb, Q b = some tb ∧ thS tb = 3 ∧ thC tb = c)) ∧ ∀ b tb, Q b = some tb → thS tb = 2 → thC tb = 13 → w.1 1 ≤ w.1 2
/-- the whole core -/
def Inv (E : En) : Prop := wM s M ∧ (∀ t th, Q t = some th → tOK C M s w g Q t th) ∧ (∀ c, g.2.1 c = 2 → c < M ∧ cOK s Q c) ∧ row s Q ∧ wsO w g Q E
end
