set_option maxRecDepth 100000
/-! THE RELATION of the component's heap and the reference's rows -/
/-- ghost: whose a cell is: (owner, place): a run's cells of node n of the instance at ia: (ia, n); n ≥ 64: the instance's own; (mo, 0..3) a moment's; (0, 100) cells that are never written again and those of the start -/
abbrev pT : Type := Nat → Nat × Nat
def pStc (tg : pT) (a : Nat) : Prop := tg a = (0, 100)
/-- all cells are below the heap's size -/
def pBd (w : gw) : Prop := ∀ a e, w.1 a = some e → a < w.2.1
/-- from w to w1 no old cell changed but those of the places P -/
def pFr (w w1 : gw) (tg tg1 : pT) (P : Nat × Nat → Prop) : Prop := pBd w1 ∧ w.2.1 ≤ w1.2.1 ∧ w1.2.2.2 = w.2.2.2 ∧ (∀ a, a < w.2.1 → tg1 a = tg a) ∧ (∀ a, a < w.2.1 → ¬ P (tg a) → w1.1 a = w.1 a)
/-- the constants' cells lie in no world -/
def pCo (w : gw) (tg : pT) : Prop := pBd w ∧ (∀ j, 2 ≤ j → j ≤ 5 → w.1 (w.2.2.2 j) = none ∧ tg (w.2.2.2 j) = (0, 100) ∧ w.2.2.2 j < w.2.1) ∧ w.2.2.2 2 ≠ w.2.2.2 3 ∧ w.2.2.2 2 ≠ w.2.2.2 4 ∧ w.2.2.2 3 ≠ w.2.2.2 4
/-- a version as the reference has it: parts, children by their places, and: 0 kind, 1 number of children, 2 end, 3 the address of the component's object, 4 level -/
abbrev SV : Type := (Nat → Nat → Int32) × (Nat → Nat → Nat) × (Nat → Nat → Nat)
def sP (S : SV) (n k : Nat) : Int32 := S.1 n k
def sCh (S : SV) (n j : Nat) : Nat := S.2.1 n j
def sKd (S : SV) (n : Nat) : Nat := S.2.2 0 n
def sCc (S : SV) (n : Nat) : Nat := S.2.2 1 n
def sEn (S : SV) (n : Nat) : Nat := S.2.2 2 n
def sSa (S : SV) (n : Nat) : Nat := S.2.2 3 n
def sLv (S : SV) (n : Nat) : Nat := S.2.2 4 n
/-- where the j-th child begins; the node's end behind the last -/
def sCp (S : SV) (n j : Nat) : Nat := if j < sCc S n then sCh S n j else sEn S n
/-- the j-th child as the rows name it -/
def sAt (S : SV) (n j : Nat) : Int32 := if j < sCc S n then nI (sCh S n j) else -1
/-- what a version's node is -/
def sNode (S : SV) (n : Nat) : Prop :=
  (n < sEn S n ∧ sEn S n ≤ sEn S 0 ∧ sP S n 0 = nI (sKd S n) ∧ sP S n 5 = sAt S n 0 ∧
   sCp S n 0 = n + 1 ∧ (∀ j, j < sCc S n → sCh S n j < sEn S (sCh S n j) ∧ sEn S (sCh S n j) = sCp S n (j + 1) ∧ sP S (sCh S n j) 6 = sAt S n (j + 1) ∧ sP S (sCh S n j) 8 = nI n)) ∧
  ((sKd S n = 0 ∧ 1 ≤ sCc S n ∧ ∀ j, j < sCc S n → sKd S (sCh S n j) ≠ 0 ∧ sLv S (sCh S n j) = sLv S n) ∨
   (sKd S n = 1 ∧ sCc S n = 0 ∧ (∃ c, c < 8 ∧ sP S n 1 = nI c) ∧ (∃ r, r ≤ 9 ∧ sP S n 2 = nI r) ∧ (∃ d, d ≤ 999 ∧ sP S n 3 = nI d) ∧ (sP S n 4 = -1 ∨ ∃ u, u < 8 ∧ sP S n 4 = nI u)) ∨
   (sKd S n = 2 ∧ sCc S n = 0 ∧ ∃ m, m ≤ 999 ∧ sP S n 1 = nI m) ∨
   (sKd S n = 3 ∧ sCc S n = 0 ∧ (∃ c, c < 8 ∧ sP S n 1 = nI c) ∧ (sP S n 2 = -1 ∨ ∃ m, m ≤ 999 ∧ sP S n 2 = nI m)) ∨
   (sKd S n = 4 ∧ sCc S n = 0 ∧ (∃ c, c < 4 ∧ sP S n 1 = nI c) ∧ (sP S n 2 = nI 0 ∨ sP S n 2 = nI 1)) ∨
   (sKd S n = 5 ∧ sCc S n = 2 ∧ (∃ c, c < 4 ∧ sP S n 1 = nI c) ∧ ∀ j, j < 2 → sKd S (sCh S n j) = 0 ∧ sLv S (sCh S n j) + 1 = sLv S n) ∨
   (sKd S n = 6 ∧ 1 ≤ sCc S n ∧ sCc S n ≤ 4 ∧ (∃ q, 1 ≤ q ∧ q ≤ sCc S n ∧ sP S n 1 = nI q) ∧ ∀ j, j < sCc S n → sKd S (sCh S n j) = 0 ∧ sLv S (sCh S n j) + 1 = sLv S n))
def pSum (f : Nat → Nat) : Nat → Nat
  | 0 => 0
  | k + 1 => pSum f k + f k
def sWf (S : SV) : Prop := sEn S 0 ≤ 64 ∧ pSum (fun n => if sKd S n = 1 then 1 else 0) (sEn S 0) ≤ 24 ∧ sKd S 0 = 0 ∧ sLv S 0 ≤ 4 ∧ sP S 0 8 = -1 ∧ ∀ n, n < sEn S 0 → sNode S n
/-- a list of the component: its elements -/
def pList (w : gw) (la : Nat) (m : Nat) (g : Nat → Option Nat) : Prop := ∃ ea cap mc, w.1 la = some (.inl (8, [gi mc, ga (some ea), gi (nI m)])) ∧ w.1 ea = some (.inr (2, cap, .inr g)) ∧ m ≤ cap ∧ cap < 1000
def pListS (w : gw) (tg : pT) (la : Nat) (m : Nat) (g : Nat → Option Nat) : Prop := pStc tg la ∧ ∃ ea cap mc, pStc tg ea ∧ w.1 la = some (.inl (8, [gi mc, ga (some ea), gi (nI m)])) ∧ w.1 ea = some (.inr (2, cap, .inr g)) ∧ m ≤ cap ∧ cap < 1000
/-- the component's object of a version's node -/
def sObj (S : SV) (w : gw) (tg : pT) (n : Nat) : Prop := pStc tg (sSa S n) ∧
  ((sKd S n = 0 ∧ ∃ la g, w.1 (sSa S n) = some (.inl (5, [ga (some la)])) ∧ pListS w tg la (sCc S n) g ∧ ∀ j, j < sCc S n → g j = some (sSa S (sCh S n j))) ∨
   (sKd S n = 1 ∧ w.1 (sSa S n) = some (.inl (9, [gi (sP S n 7), gi (sP S n 1), gi (sP S n 2), gi (sP S n 3), gi (sP S n 4)]))) ∨
   (sKd S n = 2 ∧ w.1 (sSa S n) = some (.inl (10, [gi (sP S n 7), gi (sP S n 1)]))) ∨
   (sKd S n = 3 ∧ w.1 (sSa S n) = some (.inl (11, [gi (sP S n 7), gi (sP S n 1), gi (sP S n 2)]))) ∨
   (sKd S n = 4 ∧ w.1 (sSa S n) = some (.inl (12, [gi (sP S n 7), gi (sP S n 1), gi (sP S n 2), gi (sP S n 3)]))) ∨
   (sKd S n = 5 ∧ w.1 (sSa S n) = some (.inl (13, [gi (sP S n 7), gi (sP S n 1), gi (sP S n 2), ga (some (sSa S (sCh S n 0))), ga (some (sSa S (sCh S n 1)))]))) ∨
   (sKd S n = 6 ∧ ∃ la g, w.1 (sSa S n) = some (.inl (14, [gi (sP S n 7), ga (some la), gi (sP S n 1)])) ∧ pListS w tg la (sCc S n) g ∧ ∀ j, j < sCc S n → g j = some (sSa S (sCh S n j))))
def sObjs (S : SV) (w : gw) (tg : pT) : Prop := ∀ n, n < sEn S 0 → sObj S w tg n
/-- sorted numbers in an array -/
def dL (L : List Nat) (f : Nat → Int32) : Prop := L.Pairwise (· < ·) ∧ L.length ≤ 24 ∧ ∀ j k, L[j]? = some k → f j = nI k ∧ k < 24
section RR
variable (S : SV) (xa ia i : Nat) (w : gw) (tg : pT) (s : Nat → Int32) (T : Nat) (q : Bool)
/-- number k is that of a task that was done within lo .. hi -/
def rDone (lo hi k : Nat) : Prop := k < 24 ∧ ∃ n, lo ≤ n ∧ n < hi ∧ sKd S n = 1 ∧ s (21 + 1262 * (i) + (622 + 10 * (n) + 0)) = nI 2 ∧ s (21 + 1262 * (i) + (622 + 10 * (n) + 5)) = nI (k + 1)
def rUn (lo hi : Nat) : Prop := ∀ n, lo ≤ n → n < hi → s (21 + 1262 * (i) + (622 + 10 * (n) + 0)) = nI 0 ∧ s (21 + 1262 * (i) + (622 + 10 * (n) + 7)) = -1 ∧ s (21 + 1262 * (i) + (622 + 10 * (n) + 6)) = nI 0 ∧ s (21 + 1262 * (i) + (622 + 10 * (n) + 2)) = nI 0
def rDead (lo hi : Nat) : Prop := ∀ n, lo ≤ n → n < hi → s (21 + 1262 * (i) + (622 + 10 * (n) + 7)) = -1 ∧ s (21 + 1262 * (i) + (622 + 10 * (n) + 0)) ≠ nI 1 ∧ s (21 + 1262 * (i) + (622 + 10 * (n) + 0)) ≠ nI 5
def rLive (n : Nat) : Prop := s (21 + 1262 * (i) + (622 + 10 * (n) + 0)) = nI 1 ∨ s (21 + 1262 * (i) + (622 + 10 * (n) + 0)) = nI 5
/-- how many of the first children are in this state -/
def rCount (n x : Nat) : Nat → Nat
  | 0 => 0
  | m + 1 => rCount n x m + (if s (21 + 1262 * (i) + (622 + 10 * (sCh S n m) + 0)) = nI x then 1 else 0)
/-- tasks that are compensated for a node -/
def rFor (n t : Nat) : Prop := t < sEn S 0 ∧ (n = 0 ∨ ∃ j, j < sCc S n ∧ (s (21 + 1262 * (i) + (622 + 10 * (sCh S n j) + 0)) = nI 3 ∨ s (21 + 1262 * (i) + (622 + 10 * (sCh S n j) + 0)) = nI 4) ∧ sCh S n j ≤ t ∧ t < sEn S (sCh S n j))
/-- a task that is still to be compensated -/
def rOpen (t : Nat) : Prop := sKd S t = 1 ∧ s (21 + 1262 * (i) + (622 + 10 * (t) + 0)) = nI 2 ∧ s (21 + 1262 * (i) + (622 + 10 * (t) + 6)) = nI 0 ∧ ¬ sP S t 4 < 0
/-- the cells of an undoing for node n -/
def uCell (n ua : Nat) (L : List Nat) (left tried til : Int32) : Prop := tg ua = (ia, n) ∧ ∃ td tda f, w.1 ua = some (.inl (26, [ga (some ia), ga (some td), gi left, gi tried, gi til, ga (some xa)])) ∧ pStc tg td ∧ w.1 td = some (.inl (19, [ga (some tda), gi (nI L.length)])) ∧ pStc tg tda ∧ w.1 tda = some (.inr (0, 24, .inl f)) ∧ dL L f
/-- how far an undoing for node n is -/
def uRel (n : Nat) (L : List Nat) (left : Nat) : Prop := left ≤ L.length ∧
  (∀ k, k ∈ L ↔ k < 24 ∧ ∃ t, rFor S i s n t ∧ sKd S t = 1 ∧ s (21 + 1262 * (i) + (622 + 10 * (t) + 0)) = nI 2 ∧ s (21 + 1262 * (i) + (622 + 10 * (t) + 5)) = nI (k + 1)) ∧
  (∀ j k t, left ≤ j → L[j]? = some k → rFor S i s n t → s (21 + 1262 * (i) + (622 + 10 * (t) + 5)) = nI (k + 1) → ¬ rOpen S i s t)
/-- the task under way -/
def uNow (n : Nat) (L : List Nat) (left tried : Nat) (til : Int32) : Prop := 1 ≤ left ∧ 1 ≤ tried ∧ tried ≤ 3 ∧
  (∃ t k, rFor S i s n t ∧ rOpen S i s t ∧ L[left - 1]? = some k ∧ s (21 + 1262 * (i) + (622 + 10 * (t) + 5)) = nI (k + 1) ∧ s (21 + 1262 * (i) + (622 + 10 * (n) + 7)) = nI t) ∧ s (21 + 1262 * (i) + (622 + 10 * (n) + 8)) = nI (tried - 1) ∧ s (21 + 1262 * (i) + (622 + 10 * (n) + 9)) = til ∧ ∃ U, til = nI U ∧ T < U ∧ U ≤ 1000000
def uLive (n ua : Nat) : Prop := ∃ L left tried til, uCell xa ia w tg n ua L (nI left) (nI tried) til ∧ uRel S i s n L left ∧ uNow S i s T n L left tried til
def uDead (n ua : Nat) : Prop := ∃ L left tried til, uCell xa ia w tg n ua L left tried til
/-- a body's run at a -/
def rBody (rI : Nat → Nat → Prop) (b a : Nat) : Prop := tg a = (ia, b) ∧ ∃ (idx : Nat) (cur : Option Nat) (dd da : Nat) (L : List Nat) (f : Nat → Int32),
  w.1 a = some (.inl (18, [ga (some ia), ga (some xa), ga (some (sSa S b)), ga cur, gi (nI idx), ga (some dd), ga (some xa)])) ∧
  tg dd = (ia, b) ∧ w.1 dd = some (.inl (19, [ga (some da), gi (nI L.length)])) ∧ tg da = (ia, b) ∧ w.1 da = some (.inr (0, 24, .inl f)) ∧ dL L f ∧
  idx ≤ sCc S b ∧ (∀ k, k ∈ L ↔ rDone S i s b (sCp S b idx) k) ∧ s (21 + 1262 * (i) + (622 + 10 * (b) + 7)) = -1 ∧ rDead i s (b + 1) (sCp S b idx) ∧
  (match cur with
   | none => rUn i s (sCp S b idx) (sEn S b)
   | some a' => idx < sCc S b ∧ rI (sCh S b idx) a' ∧ rUn i s (sEn S (sCh S b idx)) (sEn S b)) ∧
  (s (21 + 1262 * (i) + (622 + 10 * (b) + 0)) = nI 0 → idx = 0 ∧ cur = none) ∧
  (s (21 + 1262 * (i) + (622 + 10 * (b) + 0)) = nI 1 → cur ≠ none ∧ rLive i s (sCh S b idx) ∧ ∀ j, j < idx → s (21 + 1262 * (i) + (622 + 10 * (sCh S b j) + 0)) = nI 2) ∧
  (s (21 + 1262 * (i) + (622 + 10 * (b) + 0)) ≠ nI 1 → rDead i s b (sEn S b)) ∧ s (21 + 1262 * (i) + (622 + 10 * (b) + 0)) ≠ nI 5
/-- an item's run at a -/
def rItem (rB : Nat → Nat → Prop) (n a : Nat) : Prop :=
  (sKd S n = 1 ∧ s (21 + 1262 * (i) + (622 + 10 * (n) + 7)) = -1 ∧ s (21 + 1262 * (i) + (622 + 10 * (n) + 0)) ≠ nI 5 ∧ tg a = (ia, n) ∧ ∃ (tr un att nu : Int32), w.1 a = some (.inl (23, [ga (some ia), ga (some xa), ga (some (sSa S n)), gi tr, gi un, gi att, gi nu, ga (some xa)])) ∧
    (tr = nI 0 ∨ tr = nI 1) ∧
    (s (21 + 1262 * (i) + (622 + 10 * (n) + 0)) = nI 1 → nu = -1 ∧ s (21 + 1262 * (i) + (622 + 10 * (n) + 6)) = nI 0 ∧ ∃ A R U, sP S n 2 = nI R ∧ R ≤ 9 ∧ att = nI A ∧ s (21 + 1262 * (i) + (622 + 10 * (n) + 2)) = nI A ∧ 1 ≤ A ∧ un = nI U ∧ T < U ∧ U ≤ 1000000 ∧ ((tr = nI 1 ∧ s (21 + 1262 * (i) + (622 + 10 * (n) + 3)) = un ∧ A ≤ R + 1) ∨ (tr = nI 0 ∧ s (21 + 1262 * (i) + (622 + 10 * (n) + 3)) = -1 ∧ s (21 + 1262 * (i) + (622 + 10 * (n) + 4)) = un ∧ A ≤ R))) ∧
    (s (21 + 1262 * (i) + (622 + 10 * (n) + 0)) = nI 2 → ∃ k, k < 24 ∧ nu = nI k ∧ s (21 + 1262 * (i) + (622 + 10 * (n) + 5)) = nI (k + 1)) ∧ (s (21 + 1262 * (i) + (622 + 10 * (n) + 0)) ≠ nI 2 → nu = -1)) ∨
  (sKd S n = 2 ∧ s (21 + 1262 * (i) + (622 + 10 * (n) + 7)) = -1 ∧ s (21 + 1262 * (i) + (622 + 10 * (n) + 0)) ≠ nI 5 ∧ tg a = (ia, n) ∧ ∃ (un : Int32), w.1 a = some (.inl (24, [ga (some ia), ga (some xa), ga (some (sSa S n)), gi un, ga (some xa)])) ∧
    (s (21 + 1262 * (i) + (622 + 10 * (n) + 0)) = nI 1 → ∃ U, un = nI U ∧ T < U ∧ U ≤ 1000000 ∧ s (21 + 1262 * (i) + (622 + 10 * (n) + 1)) + sP S n 1 = un)) ∨
  (sKd S n = 3 ∧ s (21 + 1262 * (i) + (622 + 10 * (n) + 7)) = -1 ∧ s (21 + 1262 * (i) + (622 + 10 * (n) + 0)) ≠ nI 5 ∧ tg a = (ia, n) ∧ ∃ (un : Int32), w.1 a = some (.inl (21, [ga (some ia), ga (some xa), ga (some (sSa S n)), gi un, ga (some xa)])) ∧
    (s (21 + 1262 * (i) + (622 + 10 * (n) + 0)) = nI 1 → (sP S n 2 < 0 ∧ un = nI 2147483647 ∨ ¬ sP S n 2 < 0 ∧ ∃ U, un = nI U ∧ T < U ∧ U ≤ 1000000 ∧ s (21 + 1262 * (i) + (622 + 10 * (n) + 1)) + sP S n 2 = un) ∧ (q = true → ∀ c, c < 8 → sP S n 1 = nI c → s (21 + 1262 * (i) + (14 + c)) = nI 0))) ∨
  (sKd S n = 4 ∧ s (21 + 1262 * (i) + (622 + 10 * (n) + 7)) = -1 ∧ ¬ rLive i s n ∧ tg a = (ia, n) ∧ w.1 a = some (.inl (20, [ga (some ia), ga (some xa), ga (some (sSa S n)), ga (some xa)]))) ∨
  (sKd S n = 5 ∧ s (21 + 1262 * (i) + (622 + 10 * (n) + 7)) = -1 ∧ s (21 + 1262 * (i) + (622 + 10 * (n) + 0)) ≠ nI 5 ∧ ∃ j, j < 2 ∧ s (21 + 1262 * (i) + (622 + 10 * (n) + 2)) = nI (sCh S n j) ∧ rB (sCh S n j) a ∧ rUn i s (sCh S n (1 - j)) (sEn S (sCh S n (1 - j))) ∧ (s (21 + 1262 * (i) + (622 + 10 * (n) + 0)) = nI 1 → s (21 + 1262 * (i) + (622 + 10 * (sCh S n j) + 0)) = nI 1) ∧ (s (21 + 1262 * (i) + (622 + 10 * (n) + 0)) ≠ nI 1 → rDead i s n (sEn S n))) ∨
  (sKd S n = 6 ∧ tg a = (ia, n) ∧ ∃ (ba oa : Nat) (und : Option Nat) (ptr out : Nat → Option Nat),
    w.1 a = some (.inl (22, [ga (some ia), ga (some xa), ga (some (sSa S n)), ga (some ba), ga (some oa), ga und, ga (some xa)])) ∧
    tg ba = (ia, n) ∧ w.1 ba = some (.inr (5, sCc S n, .inr ptr)) ∧ tg oa = (ia, n) ∧ w.1 oa = some (.inr (6, sCc S n, .inr out)) ∧
    (∀ k, k < sCc S n → (out k = none ∧ ptr k = none ∧ rUn i s (sCh S n k) (sEn S (sCh S n k)) ∨ (out k = some (w.2.2.2 2) ∨ out k = some (w.2.2.2 3) ∨ out k = some (w.2.2.2 4)) ∧ ∃ a', ptr k = some a' ∧ rB (sCh S n k) a')) ∧
    (rLive i s n → ∀ k, k < sCc S n → (out k = some (w.2.2.2 2) ∧ s (21 + 1262 * (i) + (622 + 10 * (sCh S n k) + 0)) = nI 1 ∨ out k = some (w.2.2.2 3) ∧ s (21 + 1262 * (i) + (622 + 10 * (sCh S n k) + 0)) = nI 2 ∨ out k = some (w.2.2.2 4) ∧ (s (21 + 1262 * (i) + (622 + 10 * (sCh S n k) + 0)) = nI 3 ∨ s (21 + 1262 * (i) + (622 + 10 * (sCh S n k) + 0)) = nI 4))) ∧
    (s (21 + 1262 * (i) + (622 + 10 * (n) + 0)) = nI 1 → und = none ∧ s (21 + 1262 * (i) + (622 + 10 * (n) + 7)) = -1 ∧ ∃ q0 d r, sP S n 1 = nI q0 ∧ d < q0 ∧ q0 ≤ d + r ∧ d = rCount S i s n 2 (sCc S n) ∧ r = rCount S i s n 1 (sCc S n)) ∧
    (s (21 + 1262 * (i) + (622 + 10 * (n) + 0)) = nI 5 → (∀ k, k < sCc S n → s (21 + 1262 * (i) + (622 + 10 * (sCh S n k) + 0)) ≠ nI 1) ∧ ∃ ua, und = some ua ∧ uLive S xa ia i w tg s T n ua) ∧
    (∀ ua, und = some ua → uDead xa ia w tg n ua) ∧ (¬ rLive i s n → rDead i s n (sEn S n)))
/-- a body's run, by the level -/
def rB : Nat → Nat → Nat → Prop
  | 0 => rBody S xa ia i w tg s (rItem S xa ia i w tg s T q (fun _ _ => False))
  | l + 1 => rBody S xa ia i w tg s (rItem S xa ia i w tg s T q (rB l))
def rI : Nat → Nat → Nat → Prop
  | 0 => rItem S xa ia i w tg s T q (fun _ _ => False)
  | l + 1 => rItem S xa ia i w tg s T q (rB S xa ia i w tg s T q l)
end RR
/-- a moment's own cells; T its minute -/
def pMo (xa mo : Nat) (w : gw) (tg : pT) (s : Nat → Int32) (T : Nat) : Prop := ∃ (du fa ins : Nat) (fd ff : Nat → Int32) (fi : Nat → Option Nat), tg mo = (mo, 0) ∧ w.1 mo = some (.inl (1, [ga (some du), ga (some fa), ga (some ins), gi (s 0), ga (some xa)])) ∧
  tg du = (mo, 1) ∧ w.1 du = some (.inr (0, 8, .inl fd)) ∧ tg fa = (mo, 2) ∧ w.1 fa = some (.inr (0, 8, .inl ff)) ∧ tg ins = (mo, 3) ∧ w.1 ins = some (.inr (4, 6, .inr fi)) ∧
  (∀ c, c < 8 → fd c = s (1 + c) ∧ ff c = s (9 + c) ∧ (∃ d, d ≤ 99 ∧ s (1 + c) = nI d) ∧ ∃ d, d ≤ 99 ∧ s (9 + c) = nI d) ∧ s 0 = nI T ∧ T ≤ 100300
/-- the tasks that were done -/
def pDn (S : SV) (ia i : Nat) (w : gw) (tg : pT) (s : Nat → Int32) (dl : Nat) : Prop := ∃ (m ea : Nat) (mc : Int32) (g : Nat → Option Nat), s (21 + 1262 * (i) + 6) = nI m ∧ m = pSum (fun n => if sKd S n = 1 ∧ s (21 + 1262 * (i) + (622 + 10 * (n) + 0)) = nI 2 then 1 else 0) (sEn S 0) ∧ m ≤ 24 ∧
  tg dl = (ia, 68) ∧ w.1 dl = some (.inl (8, [gi mc, ga (some ea), gi (nI m)])) ∧ (m = 0 ∧ ea = w.2.2.2 5 ∨ tg ea = (ia, 69) ∧ ∃ cap, m ≤ cap ∧ 1 ≤ cap ∧ cap ≤ 36 ∧ w.1 ea = some (.inr (2, cap, .inr g))) ∧
  (∀ k, k < m → ∃ dk t e, g k = some dk ∧ tg dk = (ia, 70 + k) ∧ t < sEn S 0 ∧ sKd S t = 1 ∧ s (21 + 1262 * (i) + (622 + 10 * (t) + 0)) = nI 2 ∧ s (21 + 1262 * (i) + (622 + 10 * (t) + 5)) = nI (k + 1) ∧ w.1 dk = some (.inl (25, [gi (sP S t 1), gi (sP S t 4), gi e])) ∧ (s (21 + 1262 * (i) + (622 + 10 * (t) + 6)) = nI 0 ∧ e = nI 2 ∨ s (21 + 1262 * (i) + (622 + 10 * (t) + 6)) = e ∧ (e = nI 6 ∨ e = nI 7))) ∧
  (∀ t, t < sEn S 0 → sKd S t = 1 → s (21 + 1262 * (i) + (622 + 10 * (t) + 0)) = nI 2 → ∃ k, k < m ∧ s (21 + 1262 * (i) + (622 + 10 * (t) + 5)) = nI (k + 1)) ∧
  (∀ t t', t < sEn S 0 → t' < sEn S 0 → sKd S t = 1 → sKd S t' = 1 → s (21 + 1262 * (i) + (622 + 10 * (t) + 0)) = nI 2 → s (21 + 1262 * (i) + (622 + 10 * (t') + 0)) = nI 2 → s (21 + 1262 * (i) + (622 + 10 * (t) + 5)) = s (21 + 1262 * (i) + (622 + 10 * (t') + 5)) → t = t')
/-- an instance's own cells -/
def pIn (S : SV) (xa mo ia i : Nat) (w : gw) (tg : pT) (s : Nat → Int32) (bo un : Option Nat) : Prop := ∃ (va pe hi dl : Nat) (fv fp fh : Nat → Int32), tg ia = (ia, 64) ∧
  w.1 ia = some (.inl (16, [ga (some mo), gi (s (21 + 1262 * (i) + 2)), gi (s (21 + 1262 * (i) + 3)), gi (s (21 + 1262 * (i) + 4)), ga (some va), ga (some pe), ga (some dl), ga (some hi), gi (s (21 + 1262 * (i) + 9)), gi (s (21 + 1262 * (i) + 1)), gi (s (21 + 1262 * (i) + 5)), gi (s (21 + 1262 * (i) + 7)), gi (s (21 + 1262 * (i) + 8)), ga bo, ga un, ga (some xa)])) ∧
  tg va = (ia, 65) ∧ w.1 va = some (.inr (0, 4, .inl fv)) ∧ tg pe = (ia, 66) ∧ w.1 pe = some (.inr (0, 8, .inl fp)) ∧ tg hi = (ia, 67) ∧ w.1 hi = some (.inr (0, 600, .inl fh)) ∧
  (∀ c, c < 4 → fv c = s (21 + 1262 * (i) + (10 + c))) ∧ (∀ c, c < 8 → fp c = s (21 + 1262 * (i) + (14 + c)) ∧ ∃ d, d ≤ 9 ∧ s (21 + 1262 * (i) + (14 + c)) = nI d) ∧ (∀ j, j < 600 → fh j = s (21 + 1262 * (i) + (22 + j))) ∧ pDn S ia i w tg s dl
