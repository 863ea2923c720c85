set_option maxRecDepth 100000
def f_X5_newRoom_l26 (E : Nat → Nat) (v0 : Nat) (Q : hH → Prop) (K46 : hH → Prop) : Nat → Int32 → hH → Prop
  | 0, _, _ => False
  | n + 1, l1, h => cnd ((1782:Int32) ≤ l1) (K46 h) (gR h (some v0) 3 5 fun x1 =>
stI h x1 0 l1 (0:Int32) fun h2 =>
(f_X5_newRoom_l26 E v0 Q K46 n) (l1 + (1:Int32)) h2)
def f_X5_newRoom_l2 (E : Nat → Nat) (v0 : Nat) (Q : hH → Prop) (K24 : hH → Prop) : Nat → Int32 → hH → Prop
  | 0, _, _ => False
  | n + 1, l1, h => gR h (some v0) 3 3 fun x3 =>
aLn h x3 0 fun x4 =>
cnd (x4 ≤ l1) (K24 h) (gR h (some v0) 3 3 fun x5 =>
stI h x5 0 l1 (0:Int32) fun h6 =>
(f_X5_newRoom_l2 E v0 Q K24 n) (l1 + (1:Int32)) h6)
def f_X5_newRoom (E : Nat → Nat) (v0 : Nat) (h : hH) (Q : hH → Prop) : Prop :=
f_X5_newRoom_l2 E v0 Q (fun h => f_X5_newRoom_l26 E v0 Q (fun h => gR h (some v0) 3 5 fun x7 =>
stI h x7 0 (0:Int32) (40:Int32) fun h8 =>
gR h8 (some v0) 3 5 fun x9 =>
stI h8 x9 0 (1:Int32) (2:Int32) fun h10 =>
Q h10) 1000000 (0:Int32) h) 1000000 (0:Int32) h
def f_X5_init (E : Nat → Nat) (v0 : Nat) (h : hH) (Q : hH → Prop) : Prop :=
nA h 0 (900:Int32) 900 fun q1 h2 =>
pV h2 (some v0) 3 1 (va_rf (some q1)) fun h3 =>
nA h3 0 (22:Int32) 22 fun q4 h5 =>
pV h5 (some v0) 3 3 (va_rf (some q4)) fun h6 =>
nA h6 0 (22:Int32) 22 fun q7 h8 =>
pV h8 (some v0) 3 4 (va_rf (some q7)) fun h9 =>
nA h9 0 (1782:Int32) 1782 fun q10 h11 =>
pV h11 (some v0) 3 5 (va_rf (some q10)) fun h12 =>
nA h12 0 (1782:Int32) 1782 fun q13 h14 =>
pV h14 (some v0) 3 6 (va_rf (some q13)) fun h15 =>
nA h15 0 (17820:Int32) 17820 fun q16 h17 =>
pV h17 (some v0) 3 7 (va_rf (some q16)) fun h18 =>
nA h18 0 (16:Int32) 16 fun q19 h20 =>
pV h20 (some v0) 3 9 (va_rf (some q19)) fun h21 =>
nA h21 0 (32:Int32) 32 fun q22 h23 =>
pV h23 (some v0) 3 10 (va_rf (some q22)) fun h24 =>
nA h24 0 (32:Int32) 32 fun q25 h26 =>
pV h26 (some v0) 3 11 (va_rf (some q25)) fun h27 =>
pV h27 (some v0) 3 21 (.int (-1:Int32)) fun h28 =>
nA h28 0 (90:Int32) 90 fun q29 h30 =>
pV h30 (some v0) 3 25 (va_rf (some q29)) fun h31 =>
isT h31 (some v0) 3 fun a33 => f_X5_newRoom E a33 h31 (fun h32 =>
Q h32)
def f_X5_thrown (E : Nat → Nat) (v0 : Nat) (h : hH) (Q : Int32 → hH → Prop) : Prop :=
gI h (some v0) 3 0 fun x1 =>
Q x1 h
def f_X5_feed_j77 (E : Nat → Nat) (v0 : Nat) (Q : Int32 → hH → Prop) (K24 : Int32 → Int32 → Int32 → Int32 → Int32 → Int32 → hH → Prop) (s0 : Int32) (l1 : Int32) (l2 : Int32) (l3 : Int32) (l4 : Int32) (l5 : Int32) (l6 : Int32) (h : hH) : Prop :=
gR h (some v0) 3 1 fun x1 =>
gI h (some v0) 3 2 fun x2 =>
stI h x1 0 (x2 + l6) ((s0 >>> (((24:Int32) - ((8:Int32) * (iRem l6 (4:Int32)))) &&& 31)) &&& (255:Int32)) fun h3 =>
K24 l1 l2 l3 l4 l5 (l6 + (1:Int32)) h3
def f_X5_feed_l24 (E : Nat → Nat) (v0 : Nat) (Q : Int32 → hH → Prop) (K114 : hH → Prop) : Nat → Int32 → Int32 → Int32 → Int32 → Int32 → Int32 → hH → Prop
  | 0, _, _, _, _, _, _, _ => False
  | n + 1, l1, l2, l3, l4, l5, l6, h => cnd ((20:Int32) ≤ l6) (K114 h) (cnd ((4:Int32) ≤ l6) (cnd ((8:Int32) ≤ l6) (cnd ((12:Int32) ≤ l6) (cnd ((16:Int32) ≤ l6) (f_X5_feed_j77 E v0 Q (f_X5_feed_l24 E v0 Q K114 n) l5 l1 l2 l3 l4 l5 l6 h) (f_X5_feed_j77 E v0 Q (f_X5_feed_l24 E v0 Q K114 n) l4 l1 l2 l3 l4 l5 l6 h)) (f_X5_feed_j77 E v0 Q (f_X5_feed_l24 E v0 Q K114 n) l3 l1 l2 l3 l4 l5 l6 h)) (f_X5_feed_j77 E v0 Q (f_X5_feed_l24 E v0 Q K114 n) l2 l1 l2 l3 l4 l5 l6 h)) (f_X5_feed_j77 E v0 Q (f_X5_feed_l24 E v0 Q K114 n) l1 l1 l2 l3 l4 l5 l6 h))
def f_X5_feed (E : Nat → Nat) (v0 : Nat) (v1 : Int32) (v2 : Int32) (v3 : Int32) (v4 : Int32) (v5 : Int32) (h : hH) (Q : Int32 → hH → Prop) : Prop :=
pV h (some v0) 3 0 (.int (0:Int32)) fun h4 =>
gI h4 (some v0) 3 2 fun x5 =>
cnd ((x5 + (20:Int32)) ≤ (900:Int32)) (f_X5_feed_l24 E v0 Q (fun h => gI h (some v0) 3 2 fun x6 =>
pV h (some v0) 3 2 (.int (x6 + (20:Int32))) fun h7 =>
gI h7 (some v0) 3 2 fun x8 =>
Q x8 h7) 1000000 v1 v2 v3 v4 v5 (0:Int32) h4) (Q (-3:Int32) h4)
def f_X5_copies_l2 (E : Nat → Nat) (Q : hH → Prop) (K20 : hH → Prop) : Nat → Option Nat → Option Nat → Int32 → hH → Prop
  | 0, _, _, _, _ => False
  | n + 1, l0, l1, l2, h => aLn h l0 0 fun x1 =>
cnd (x1 ≤ l2) (K20 h) (ldI h l0 0 l2 fun x2 =>
stI h l1 0 l2 x2 fun h3 =>
(f_X5_copies_l2 E Q K20 n) l0 l1 (l2 + (1:Int32)) h3)
def f_X5_copies (E : Nat → Nat) (v0 : Option Nat) (v1 : Option Nat) (h : hH) (Q : hH → Prop) : Prop :=
f_X5_copies_l2 E Q (fun h => Q h) 1000000 v0 v1 (0:Int32) h
def f_X5_here (E : Nat → Nat) (v0 : Nat) (h : hH) (Q : Int32 → hH → Prop) : Prop :=
gI h (some v0) 3 15 fun x1 =>
gI h (some v0) 3 14 fun x2 =>
cnd (x2 ≤ x1) (Q (-1:Int32) h) (gR h (some v0) 3 1 fun x3 =>
gI h (some v0) 3 15 fun x4 =>
ldI h x3 0 x4 fun x5 =>
Q x5 h)
def f_X5_isSmall (E : Nat → Nat) (v0 : Int32) (h : hH) (Q : Int32 → hH → Prop) : Prop :=
cnd (v0 < (97:Int32)) (Q (0:Int32) h) (cnd ((122:Int32) < v0) (Q (0:Int32) h) (Q (1:Int32) h))
def f_X5_isDigit (E : Nat → Nat) (v0 : Int32) (h : hH) (Q : Int32 → hH → Prop) : Prop :=
cnd (v0 < (48:Int32)) (Q (0:Int32) h) (cnd ((57:Int32) < v0) (Q (0:Int32) h) (Q (1:Int32) h))
def f_X5_next_j154 (E : Nat → Nat) (v0 : Nat) (Q : hH → Prop) (K112 : hH → Prop) (s0 : Option Nat) (s1 : Int32) (h : hH) : Prop :=
pV h s0 3 18 (.int s1) fun h1 =>
gI h1 (some v0) 3 15 fun x2 =>
pV h1 (some v0) 3 15 (.int (x2 + (1:Int32))) fun h3 =>
K112 h3
def f_X5_next_l112 (E : Nat → Nat) (v0 : Nat) (Q : hH → Prop) (K195 : hH → Prop) : Nat → hH → Prop
  | 0, _ => False
  | n + 1, h => isT h (some v0) 3 fun a6 => f_X5_here E a6 h (fun x5 h4 =>
f_X5_isDigit E x5 h4 (fun x8 h7 =>
cnd (x8 = (0:Int32)) (K195 h7) (gI h7 (some v0) 3 18 fun x9 =>
cnd (x9 ≤ (100000:Int32)) (gI h7 (some v0) 3 18 fun x10 =>
isT h7 (some v0) 3 fun a13 => f_X5_here E a13 h7 (fun x12 h11 =>
f_X5_next_j154 E v0 Q (f_X5_next_l112 E v0 Q K195 n) (some v0) ((((10:Int32) * x10) + x12) - (48:Int32)) h11)) (gI h7 (some v0) 3 18 fun x14 =>
f_X5_next_j154 E v0 Q (f_X5_next_l112 E v0 Q K195 n) (some v0) x14 h7))))
def f_X5_next_l64 (E : Nat → Nat) (v0 : Nat) (Q : hH → Prop) (K87 : hH → Prop) : Nat → hH → Prop
  | 0, _ => False
  | n + 1, h => isT h (some v0) 3 fun a17 => f_X5_here E a17 h (fun x16 h15 =>
f_X5_isSmall E x16 h15 (fun x19 h18 =>
cnd (x19 = (0:Int32)) (K87 h18) (gI h18 (some v0) 3 15 fun x20 =>
pV h18 (some v0) 3 15 (.int (x20 + (1:Int32))) fun h21 =>
(f_X5_next_l64 E v0 Q K87 n) h21)))
def f_X5_next_j18 (E : Nat → Nat) (v0 : Nat) (Q : hH → Prop) (K0 : hH → Prop) (h : hH) : Prop :=
gI h (some v0) 3 15 fun x22 =>
pV h (some v0) 3 15 (.int (x22 + (1:Int32))) fun h23 =>
K0 h23
def f_X5_next_l0 (E : Nat → Nat) (v0 : Nat) (Q : hH → Prop) (K31 : hH → Prop) : Nat → hH → Prop
  | 0, _ => False
  | n + 1, h => isT h (some v0) 3 fun a26 => f_X5_here E a26 h (fun x25 h24 =>
cnd (x25 = (10:Int32)) (f_X5_next_j18 E v0 Q (f_X5_next_l0 E v0 Q K31 n) h24) (isT h24 (some v0) 3 fun a29 => f_X5_here E a29 h24 (fun x28 h27 =>
cnd (x28 = (32:Int32)) (f_X5_next_j18 E v0 Q (f_X5_next_l0 E v0 Q K31 n) h27) (K31 h27))))
def f_X5_next_j182 (E : Nat → Nat) (v0 : Nat) (Q : hH → Prop) (s0 : Option Nat) (s1 : Int32) (h : hH) : Prop :=
pV h s0 3 17 (.int s1) fun h30 =>
gI h30 (some v0) 3 15 fun x31 =>
pV h30 (some v0) 3 15 (.int (x31 + (1:Int32))) fun h32 =>
Q h32
def f_X5_next (E : Nat → Nat) (v0 : Nat) (h : hH) (Q : hH → Prop) : Prop :=
f_X5_next_l0 E v0 Q (fun h => gI h (some v0) 3 15 fun x33 =>
pV h (some v0) 3 16 (.int x33) fun h34 =>
isT h34 (some v0) 3 fun a37 => f_X5_here E a37 h34 (fun x36 h35 =>
cnd (x36 = (-1:Int32)) (pV h35 (some v0) 3 17 (.int (3:Int32)) fun h45 =>
Q h45) (f_X5_isSmall E x36 h35 (fun x39 h38 =>
cnd (x39 = (0:Int32)) (f_X5_isDigit E x36 h38 (fun x41 h40 =>
cnd (x41 = (0:Int32)) (cnd (x36 = (59:Int32)) (f_X5_next_j182 E v0 Q (some v0) (2:Int32) h40) (f_X5_next_j182 E v0 Q (some v0) (4:Int32) h40)) (pV h40 (some v0) 3 17 (.int (1:Int32)) fun h42 =>
pV h42 (some v0) 3 18 (.int (0:Int32)) fun h43 =>
f_X5_next_l112 E v0 Q (fun h => Q h) 1000000 h43))) (f_X5_next_l64 E v0 Q (fun h => pV h (some v0) 3 17 (.int (0:Int32)) fun h44 =>
Q h44) 1000000 h38))))) 1000000 h
def f_X5_wordOf_l107 (E : Nat → Nat) (v0 : Nat) (Q : Int32 → hH → Prop) (K123 : Option Nat → Int32 → Int32 → hH → Prop) : Nat → Option Nat → Int32 → Int32 → hH → Prop
  | 0, _, _, _, _ => False
  | n + 1, l1, l2, l3, h => isT h l1 21 fun a3 => f_J8_charAt E a3 l3 h (fun x2 h1 =>
cnd (x2 = (32:Int32)) (K123 l1 l2 l3 h1) ((f_X5_wordOf_l107 E v0 Q K123 n) l1 l2 (l3 + (1:Int32)) h1))
def f_X5_wordOf_l22 (E : Nat → Nat) (v0 : Nat) (Q : Int32 → hH → Prop) (K78 : Option Nat → Int32 → Int32 → Int32 → hH → Prop) : Nat → Option Nat → Int32 → Int32 → Int32 → hH → Prop
  | 0, _, _, _, _, _ => False
  | n + 1, l1, l2, l3, l4, h => isT h l1 21 fun a6 => f_J8_charAt E a6 (l3 + l4) h (fun x5 h4 =>
cnd (x5 = (32:Int32)) (K78 l1 l2 l3 l4 h4) (gI h4 (some v0) 3 16 fun x7 =>
gI h4 (some v0) 3 15 fun x8 =>
cnd (x8 ≤ (x7 + l4)) (K78 l1 l2 l3 l4 h4) (gR h4 (some v0) 3 1 fun x9 =>
gI h4 (some v0) 3 16 fun x10 =>
ldI h4 x9 0 (x10 + l4) fun x11 =>
isT h4 l1 21 fun a14 => f_J8_charAt E a14 (l3 + l4) h4 (fun x13 h12 =>
cnd (x11 = x13) ((f_X5_wordOf_l22 E v0 Q K78 n) l1 l2 l3 (l4 + (1:Int32)) h12) (K78 l1 l2 l3 l4 h12)))))
def f_X5_wordOf_j78 (E : Nat → Nat) (v0 : Nat) (Q : Int32 → hH → Prop) (K4 : Option Nat → Int32 → Int32 → hH → Prop) (K105 : Int32 → hH → Prop) (l1 : Option Nat) (l2 : Int32) (l3 : Int32) (l4 : Int32) (h : hH) : Prop :=
isT h l1 21 fun a17 => f_J8_charAt E a17 (l3 + l4) h (fun x16 h15 =>
cnd (x16 = (32:Int32)) (gI h15 (some v0) 3 16 fun x18 =>
gI h15 (some v0) 3 15 fun x19 =>
cnd ((x18 + l4) = x19) (K105 l2 h15) (f_X5_wordOf_l107 E v0 Q (fun l1 l2 l3 h => K4 l1 (l2 + (1:Int32)) (l3 + (1:Int32)) h) 1000000 l1 l2 l3 h15)) (f_X5_wordOf_l107 E v0 Q (fun l1 l2 l3 h => K4 l1 (l2 + (1:Int32)) (l3 + (1:Int32)) h) 1000000 l1 l2 l3 h15))
def f_X5_wordOf_l4 (E : Nat → Nat) (v0 : Nat) (Q : Int32 → hH → Prop) (K105 : Int32 → hH → Prop) (K132 : hH → Prop) : Nat → Option Nat → Int32 → Int32 → hH → Prop
  | 0, _, _, _, _ => False
  | n + 1, l1, l2, l3, h => gI h (some v0) 3 17 fun x20 =>
cnd (x20 = (0:Int32)) (isT h l1 21 fun a23 => f_J8_length E a23 h (fun x22 h21 =>
cnd (x22 ≤ l3) (K132 h21) (f_X5_wordOf_l22 E v0 Q (fun l1 l2 l3 l4 h => f_X5_wordOf_j78 E v0 Q (f_X5_wordOf_l4 E v0 Q K105 K132 n) K105 l1 l2 l3 l4 h) 1000000 l1 l2 l3 (0:Int32) h21))) (K132 h)
def f_X5_wordOf (E : Nat → Nat) (v0 : Nat) (v1 : Option Nat) (h : hH) (Q : Int32 → hH → Prop) : Prop :=
f_X5_wordOf_l4 E v0 Q (fun l2 h => Q l2 h) (fun h => Q (-1:Int32) h) 1000000 v1 (0:Int32) (0:Int32) h
def f_X5_failsIf (E : Nat → Nat) (v0 : Nat) (v1 : Int32) (v2 : Int32) (h : hH) (Q : hH → Prop) : Prop :=
gI h (some v0) 3 19 fun x1 =>
cnd (x1 = (0:Int32)) (cnd (v1 = (0:Int32)) (Q h) (pV h (some v0) 3 19 (.int v2) fun h2 =>
gI h2 (some v0) 3 16 fun x3 =>
pV h2 (some v0) 3 20 (.int x3) fun h4 =>
Q h4)) (Q h)
def f_X5_goOn (E : Nat → Nat) (v0 : Nat) (h : hH) (Q : hH → Prop) : Prop :=
gI h (some v0) 3 19 fun x1 =>
cnd (x1 = (0:Int32)) (isT h (some v0) 3 fun a3 => f_X5_next E a3 h (fun h2 =>
Q h2)) (Q h)
def f_X5_low (E : Nat → Nat) (v0 : Int32) (h : hH) (Q : Int32 → hH → Prop) : Prop :=
Q (1:Int32) h
def f_X5_top (E : Nat → Nat) (v0 : Int32) (h : hH) (Q : Int32 → hH → Prop) : Prop :=
cnd (v0 = (0:Int32)) (Q (40:Int32) h) (Q (6:Int32) h)
def f_X5_integer_j61 (E : Nat → Nat) (v0 : Nat) (Q : Int32 → hH → Prop) (s0 : Int32) (h : hH) : Prop :=
isT h (some v0) 3 fun a2 => f_X5_goOn E a2 h (fun h1 =>
Q s0 h1)
def f_X5_integer_j41 (E : Nat → Nat) (v0 : Nat) (Q : Int32 → hH → Prop) (s0 : Option Nat) (s1 : Int32) (l1 : Int32) (h : hH) : Prop :=
isT h s0 3 fun a4 => f_X5_failsIf E a4 s1 (-12:Int32) h (fun h3 =>
gI h3 (some v0) 3 19 fun x5 =>
cnd (x5 = (0:Int32)) (gI h3 (some v0) 3 18 fun x6 =>
f_X5_integer_j61 E v0 Q x6 h3) (f_X5_integer_j61 E v0 Q l1 h3))
def f_X5_integer_j36 (E : Nat → Nat) (v0 : Nat) (Q : Int32 → hH → Prop) (s0 : Option Nat) (l1 : Int32) (h : hH) : Prop :=
f_X5_integer_j41 E v0 Q s0 (1:Int32) l1 h
def f_X5_integer_j14 (E : Nat → Nat) (v0 : Nat) (Q : Int32 → hH → Prop) (s0 : Option Nat) (s1 : Int32) (l1 : Int32) (l2 : Int32) (h : hH) : Prop :=
isT h s0 3 fun a8 => f_X5_failsIf E a8 s1 (-11:Int32) h (fun h7 =>
gI h7 (some v0) 3 18 fun x9 =>
cnd (x9 < l1) (f_X5_integer_j36 E v0 Q (some v0) l1 h7) (gI h7 (some v0) 3 18 fun x10 =>
cnd (x10 ≤ l2) (f_X5_integer_j41 E v0 Q (some v0) (0:Int32) l1 h7) (f_X5_integer_j36 E v0 Q (some v0) l1 h7)))
def f_X5_integer (E : Nat → Nat) (v0 : Nat) (v1 : Int32) (v2 : Int32) (h : hH) (Q : Int32 → hH → Prop) : Prop :=
gI h (some v0) 3 17 fun x11 =>
cnd (x11 = (1:Int32)) (f_X5_integer_j14 E v0 Q (some v0) (0:Int32) v1 v2 h) (f_X5_integer_j14 E v0 Q (some v0) (1:Int32) v1 v2 h)
def f_X5_readSetting_j58 (E : Nat → Nat) (v0 : Nat) (Q : hH → Prop) (s0 : Option Nat) (s1 : Int32) (l1 : Int32) (h : hH) : Prop :=
isT h s0 3 fun a2 => f_X5_failsIf E a2 s1 (-14:Int32) h (fun h1 =>
gI h1 (some v0) 3 23 fun x3 =>
pV h1 (some v0) 3 23 (.int (x3 ||| ((1:Int32) <<< (l1 &&& 31)))) fun h4 =>
isT h4 (some v0) 3 fun a6 => f_X5_goOn E a6 h4 (fun h5 =>
f_X5_low E l1 h5 (fun x8 h7 =>
f_X5_top E l1 h7 (fun x10 h9 =>
isT h9 (some v0) 3 fun a13 => f_X5_integer E a13 x8 x10 h9 (fun x12 h11 =>
gI h11 (some v0) 3 19 fun x14 =>
cnd (x14 = (0:Int32)) (gR h11 (some v0) 3 5 fun x15 =>
stI h11 x15 0 ((0:Int32) + l1) x12 fun h16 =>
Q h16) (Q h11))))))
def f_X5_readSetting_j39 (E : Nat → Nat) (v0 : Nat) (Q : hH → Prop) (s0 : Int32) (h : hH) : Prop :=
gI h (some v0) 3 23 fun x17 =>
cnd (((x17 >>> (s0 &&& 31)) &&& (1:Int32)) = (1:Int32)) (f_X5_readSetting_j58 E v0 Q (some v0) (1:Int32) s0 h) (f_X5_readSetting_j58 E v0 Q (some v0) (0:Int32) s0 h)
def f_X5_readSetting_j22 (E : Nat → Nat) (v0 : Nat) (Q : hH → Prop) (s0 : Option Nat) (s1 : Int32) (l1 : Int32) (h : hH) : Prop :=
isT h s0 3 fun a19 => f_X5_failsIf E a19 s1 (-11:Int32) h (fun h18 =>
gI h18 (some v0) 3 19 fun x20 =>
cnd (x20 = (0:Int32)) (f_X5_readSetting_j39 E v0 Q l1 h18) (f_X5_readSetting_j39 E v0 Q (0:Int32) h18))
def f_X5_readSetting (E : Nat → Nat) (v0 : Nat) (h : hH) (Q : hH → Prop) : Prop :=
isT h (some v0) 3 fun a22 => f_X5_goOn E a22 h (fun h21 =>
isT h21 (some v0) 3 fun a25 => f_X5_wordOf E a25 (some (E 36)) h21 (fun x24 h23 =>
cnd (x24 = (-1:Int32)) (f_X5_readSetting_j22 E v0 Q (some v0) (1:Int32) x24 h23) (f_X5_readSetting_j22 E v0 Q (some v0) (0:Int32) x24 h23)))
def f_X5_nameHere_j85 (E : Nat → Nat) (v0 : Nat) (Q : Int32 → hH → Prop) (K36 : Int32 → Int32 → hH → Prop) (s0 : Int32) (s1 : Int32) (l2 : Int32) (h : hH) : Prop :=
K36 (s0 ||| s1) (l2 + (1:Int32)) h
def f_X5_nameHere_l36 (E : Nat → Nat) (v0 : Nat) (Q : Int32 → hH → Prop) (K93 : Int32 → hH → Prop) : Nat → Int32 → Int32 → hH → Prop
  | 0, _, _, _ => False
  | n + 1, l1, l2, h => cnd ((6:Int32) ≤ l2) (K93 l1 h) (gI h (some v0) 3 19 fun x1 =>
cnd (x1 = (0:Int32)) (gI h (some v0) 3 16 fun x2 =>
gI h (some v0) 3 15 fun x3 =>
cnd (x3 ≤ (x2 + l2)) (f_X5_nameHere_j85 E v0 Q (f_X5_nameHere_l36 E v0 Q K93 n) (l1 <<< ((5:Int32) &&& 31)) (0:Int32) l2 h) (gR h (some v0) 3 1 fun x4 =>
gI h (some v0) 3 16 fun x5 =>
ldI h x4 0 (x5 + l2) fun x6 =>
f_X5_nameHere_j85 E v0 Q (f_X5_nameHere_l36 E v0 Q K93 n) (l1 <<< ((5:Int32) &&& 31)) ((x6 - (97:Int32)) + (1:Int32)) l2 h)) (K93 l1 h))
def f_X5_nameHere_j27 (E : Nat → Nat) (v0 : Nat) (Q : Int32 → hH → Prop) (s0 : Option Nat) (s1 : Int32) (h : hH) : Prop :=
isT h s0 3 fun a8 => f_X5_failsIf E a8 s1 (-11:Int32) h (fun h7 =>
f_X5_nameHere_l36 E v0 Q (fun l1 h => Q l1 h) 1000000 (0:Int32) (0:Int32) h7)
def f_X5_nameHere_j22 (E : Nat → Nat) (v0 : Nat) (Q : Int32 → hH → Prop) (s0 : Option Nat) (h : hH) : Prop :=
f_X5_nameHere_j27 E v0 Q s0 (1:Int32) h
def f_X5_nameHere (E : Nat → Nat) (v0 : Nat) (h : hH) (Q : Int32 → hH → Prop) : Prop :=
gI h (some v0) 3 17 fun x9 =>
cnd (x9 = (0:Int32)) (gI h (some v0) 3 15 fun x10 =>
gI h (some v0) 3 16 fun x11 =>
cnd ((x10 - x11) ≤ (6:Int32)) (f_X5_nameHere_j27 E v0 Q (some v0) (0:Int32) h) (f_X5_nameHere_j22 E v0 Q (some v0) h)) (f_X5_nameHere_j22 E v0 Q (some v0) h)
def f_X5_members (E : Nat → Nat) (v0 : Nat) (h : hH) (Q : Int32 → hH → Prop) : Prop :=
gR h (some v0) 3 5 fun x1 =>
ldI h x1 0 (2:Int32) fun x2 =>
Q x2 h
def f_X5_found_l2 (E : Nat → Nat) (v0 : Nat) (Q : Int32 → hH → Prop) (K27 : Int32 → hH → Prop) (K35 : hH → Prop) : Nat → Int32 → Int32 → hH → Prop
  | 0, _, _, _ => False
  | n + 1, l1, l2, h => isT h (some v0) 3 fun a3 => f_X5_members E a3 h (fun x2 h1 =>
cnd (x2 ≤ l2) (K35 h1) (cnd (l1 = (0:Int32)) (K35 h1) (gR h1 (some v0) 3 3 fun x4 =>
ldI h1 x4 0 ((16:Int32) + l2) fun x5 =>
cnd (x5 = l1) (K27 l2 h1) ((f_X5_found_l2 E v0 Q K27 K35 n) l1 (l2 + (1:Int32)) h1))))
def f_X5_found (E : Nat → Nat) (v0 : Nat) (v1 : Int32) (h : hH) (Q : Int32 → hH → Prop) : Prop :=
f_X5_found_l2 E v0 Q (fun l2 h => Q l2 h) (fun h => Q (-1:Int32) h) 1000000 v1 (0:Int32) h
def f_X5_known_j33 (E : Nat → Nat) (v0 : Nat) (Q : Int32 → hH → Prop) (s0 : Option Nat) (s1 : Int32) (l2 : Int32) (h : hH) : Prop :=
isT h s0 3 fun a2 => f_X5_failsIf E a2 s1 (-13:Int32) h (fun h1 =>
isT h1 (some v0) 3 fun a4 => f_X5_goOn E a4 h1 (fun h3 =>
gI h3 (some v0) 3 19 fun x5 =>
cnd (x5 = (0:Int32)) (Q l2 h3) (Q (0:Int32) h3)))
def f_X5_known_j21 (E : Nat → Nat) (v0 : Nat) (Q : Int32 → hH → Prop) (s0 : Int32) (h : hH) : Prop :=
cnd (s0 = (-1:Int32)) (f_X5_known_j33 E v0 Q (some v0) (1:Int32) s0 h) (f_X5_known_j33 E v0 Q (some v0) (0:Int32) s0 h)
def f_X5_known (E : Nat → Nat) (v0 : Nat) (h : hH) (Q : Int32 → hH → Prop) : Prop :=
isT h (some v0) 3 fun a8 => f_X5_nameHere E a8 h (fun x7 h6 =>
gI h6 (some v0) 3 19 fun x9 =>
cnd (x9 = (0:Int32)) (isT h6 (some v0) 3 fun a12 => f_X5_found E a12 x7 h6 (fun x11 h10 =>
f_X5_known_j21 E v0 Q x11 h10)) (f_X5_known_j21 E v0 Q (0:Int32) h6))
def f_X5_faults (E : Nat → Nat) (v0 : Nat) (v1 : Int32) (v2 : Int32) (v3 : Int32) (v4 : Int32) (h : hH) (Q : hH → Prop) : Prop :=
gR h (some v0) 3 5 fun x1 =>
ldI h x1 0 (1741:Int32) fun x2 =>
gR h (some v0) 3 5 fun x3 =>
stI h x3 0 (((1742:Int32) + ((4:Int32) * x2)) + (0:Int32)) v1 fun h4 =>
gR h4 (some v0) 3 5 fun x5 =>
stI h4 x5 0 (((1742:Int32) + ((4:Int32) * x2)) + (1:Int32)) v2 fun h6 =>
gR h6 (some v0) 3 5 fun x7 =>
stI h6 x7 0 (((1742:Int32) + ((4:Int32) * x2)) + (2:Int32)) v3 fun h8 =>
gR h8 (some v0) 3 5 fun x9 =>
stI h8 x9 0 (((1742:Int32) + ((4:Int32) * x2)) + (3:Int32)) v4 fun h10 =>
gR h10 (some v0) 3 5 fun x11 =>
ldI h10 x11 0 (1741:Int32) fun x12 =>
stI h10 x11 0 (1741:Int32) (x12 + (1:Int32)) fun h13 =>
Q h13
def f_X5_readFault_j19 (E : Nat → Nat) (v0 : Nat) (Q : hH → Prop) (s0 : Option Nat) (s1 : Int32) (h : hH) : Prop :=
isT h s0 3 fun a2 => f_X5_failsIf E a2 s1 (-15:Int32) h (fun h1 =>
isT h1 (some v0) 3 fun a4 => f_X5_goOn E a4 h1 (fun h3 =>
isT h3 (some v0) 3 fun a7 => f_X5_known E a7 h3 (fun x6 h5 =>
isT h5 (some v0) 3 fun a10 => f_X5_integer E a10 (0:Int32) (39:Int32) h5 (fun x9 h8 =>
isT h8 (some v0) 3 fun a13 => f_X5_integer E a13 (0:Int32) (15:Int32) h8 (fun x12 h11 =>
isT h11 (some v0) 3 fun a16 => f_X5_integer E a16 (1:Int32) (9999:Int32) h11 (fun x15 h14 =>
gI h14 (some v0) 3 19 fun x17 =>
cnd (x17 = (0:Int32)) (isT h14 (some v0) 3 fun a19 => f_X5_faults E a19 x6 x9 x12 x15 h14 (fun h18 =>
Q h18)) (Q h14)))))))
def f_X5_readFault (E : Nat → Nat) (v0 : Nat) (h : hH) (Q : hH → Prop) : Prop :=
gR h (some v0) 3 5 fun x20 =>
ldI h x20 0 (1741:Int32) fun x21 =>
cnd (x21 = (10:Int32)) (f_X5_readFault_j19 E v0 Q (some v0) (1:Int32) h) (f_X5_readFault_j19 E v0 Q (some v0) (0:Int32) h)
def f_X5_seals_l144 (E : Nat → Nat) (v0 : Nat) (Q : hH → Prop) (K167 : hH → Prop) : Nat → Int32 → hH → Prop
  | 0, _, _ => False
  | n + 1, l3, h => cnd ((33:Int32) ≤ l3) (K167 h) (gR h (some v0) 3 5 fun x1 =>
stI h x1 0 ((1708:Int32) + l3) (0:Int32) fun h2 =>
(f_X5_seals_l144 E v0 Q K167 n) (l3 + (1:Int32)) h2)
def f_X5_seals_l65 (E : Nat → Nat) (v0 : Nat) (Q : hH → Prop) (K108 : Int32 → Int32 → Int32 → Int32 → hH → Prop) : Nat → Int32 → Int32 → Int32 → Int32 → Int32 → hH → Prop
  | 0, _, _, _, _, _, _ => False
  | n + 1, l1, l2, l3, l4, l5, h => cnd ((4:Int32) ≤ l5) (K108 l1 l2 l3 l4 h) (gR h (some v0) 3 5 fun x3 =>
gR h (some v0) 3 5 fun x4 =>
ldI h x4 0 (((1709:Int32) + ((4:Int32) * l4)) + l5) fun x5 =>
stI h x3 0 (((l1 + (1:Int32)) + ((4:Int32) * l2)) + l5) x5 fun h6 =>
(f_X5_seals_l65 E v0 Q K108 n) l1 l2 l3 l4 (l5 + (1:Int32)) h6)
def f_X5_seals_l29 (E : Nat → Nat) (v0 : Nat) (Q : hH → Prop) (K117 : Int32 → Int32 → Int32 → hH → Prop) : Nat → Int32 → Int32 → Int32 → Int32 → hH → Prop
  | 0, _, _, _, _, _ => False
  | n + 1, l1, l2, l3, l4, h => gR h (some v0) 3 5 fun x7 =>
ldI h x7 0 (1708:Int32) fun x8 =>
cnd (x8 ≤ l4) (K117 l1 l2 l3 h) (gR h (some v0) 3 5 fun x9 =>
ldI h x9 0 ((1709:Int32) + ((4:Int32) * l4)) fun x10 =>
cnd (x10 = l3) (f_X5_seals_l65 E v0 Q (fun l1 l2 l3 l4 h => (f_X5_seals_l29 E v0 Q K117 n) l1 (l2 + (1:Int32)) l3 (l4 + (1:Int32)) h) 1000000 l1 l2 l3 l4 (0:Int32) h) ((f_X5_seals_l29 E v0 Q K117 n) l1 l2 l3 (l4 + (1:Int32)) h))
def f_X5_seals_l20 (E : Nat → Nat) (v0 : Nat) (Q : hH → Prop) (K123 : Int32 → Int32 → hH → Prop) : Nat → Int32 → Int32 → Int32 → hH → Prop
  | 0, _, _, _, _ => False
  | n + 1, l1, l2, l3, h => cnd ((6:Int32) ≤ l3) (K123 l1 l2 h) (f_X5_seals_l29 E v0 Q (fun l1 l2 l3 h => (f_X5_seals_l20 E v0 Q K123 n) l1 l2 (l3 + (1:Int32)) h) 1000000 l1 l2 l3 (0:Int32) h)
def f_X5_seals (E : Nat → Nat) (v0 : Nat) (h : hH) (Q : hH → Prop) : Prop :=
gR h (some v0) 3 5 fun x11 =>
ldI h x11 0 (387:Int32) fun x12 =>
f_X5_seals_l20 E v0 Q (fun l1 l2 h => gR h (some v0) 3 5 fun x13 =>
stI h x13 0 l1 l2 fun h14 =>
gR h14 (some v0) 3 5 fun x15 =>
ldI h14 x15 0 (387:Int32) fun x16 =>
stI h14 x15 0 (387:Int32) (x16 + (1:Int32)) fun h17 =>
f_X5_seals_l144 E v0 Q (fun h => Q h) 1000000 (0:Int32) h17) 1000000 ((388:Int32) + ((33:Int32) * x12)) (0:Int32) (0:Int32) h
def f_X5_readSeal_j35 (E : Nat → Nat) (v0 : Nat) (Q : hH → Prop) (h : hH) : Prop :=
isT h (some v0) 3 fun a2 => f_X5_goOn E a2 h (fun h1 =>
Q h1)
def f_X5_readSeal_j19 (E : Nat → Nat) (v0 : Nat) (Q : hH → Prop) (s0 : Option Nat) (s1 : Int32) (h : hH) : Prop :=
isT h s0 3 fun a4 => f_X5_failsIf E a4 s1 (-15:Int32) h (fun h3 =>
gI h3 (some v0) 3 19 fun x5 =>
cnd (x5 = (0:Int32)) (isT h3 (some v0) 3 fun a7 => f_X5_seals E a7 h3 (fun h6 =>
f_X5_readSeal_j35 E v0 Q h6)) (f_X5_readSeal_j35 E v0 Q h3))
def f_X5_readSeal (E : Nat → Nat) (v0 : Nat) (h : hH) (Q : hH → Prop) : Prop :=
gR h (some v0) 3 5 fun x8 =>
ldI h x8 0 (387:Int32) fun x9 =>
cnd (x9 = (40:Int32)) (f_X5_readSeal_j19 E v0 Q (some v0) (1:Int32) h) (f_X5_readSeal_j19 E v0 Q (some v0) (0:Int32) h)
def f_X5_gives (E : Nat → Nat) (v0 : Nat) (v1 : Int32) (v2 : Int32) (v3 : Int32) (v4 : Int32) (h : hH) (Q : hH → Prop) : Prop :=
gR h (some v0) 3 5 fun x1 =>
ldI h x1 0 (1708:Int32) fun x2 =>
gR h (some v0) 3 5 fun x3 =>
stI h x3 0 (((1709:Int32) + ((4:Int32) * x2)) + (0:Int32)) v1 fun h4 =>
gR h4 (some v0) 3 5 fun x5 =>
stI h4 x5 0 (((1709:Int32) + ((4:Int32) * x2)) + (1:Int32)) v2 fun h6 =>
gR h6 (some v0) 3 5 fun x7 =>
stI h6 x7 0 (((1709:Int32) + ((4:Int32) * x2)) + (2:Int32)) v3 fun h8 =>
gR h8 (some v0) 3 5 fun x9 =>
stI h8 x9 0 (((1709:Int32) + ((4:Int32) * x2)) + (3:Int32)) v4 fun h10 =>
gR h10 (some v0) 3 5 fun x11 =>
ldI h10 x11 0 (1708:Int32) fun x12 =>
stI h10 x11 0 (1708:Int32) (x12 + (1:Int32)) fun h13 =>
Q h13
def f_X5_readCommand_j83 (E : Nat → Nat) (v0 : Nat) (Q : hH → Prop) (s0 : Option Nat) (s1 : Int32) (s2 : Int32) (l1 : Int32) (l2 : Int32) (l3 : Int32) (h : hH) : Prop :=
isT h s0 3 fun a3 => f_X5_integer E a3 s1 s2 h (fun x2 h1 =>
gI h1 (some v0) 3 19 fun x4 =>
cnd (x4 = (0:Int32)) (isT h1 (some v0) 3 fun a6 => f_X5_gives E a6 l1 l2 l3 x2 h1 (fun h5 =>
Q h5)) (Q h1))
def f_X5_readCommand_j51 (E : Nat → Nat) (v0 : Nat) (Q : hH → Prop) (s0 : Option Nat) (s1 : Int32) (l1 : Int32) (l2 : Int32) (h : hH) : Prop :=
isT h s0 3 fun a8 => f_X5_failsIf E a8 s1 (-11:Int32) h (fun h7 =>
isT h7 (some v0) 3 fun a10 => f_X5_goOn E a10 h7 (fun h9 =>
isT h9 (some v0) 3 fun a13 => f_X5_integer E a13 (0:Int32) (15:Int32) h9 (fun x12 h11 =>
cnd ((1:Int32) < l2) (f_X5_readCommand_j83 E v0 Q (some v0) (0:Int32) (15:Int32) l1 l2 x12 h11) (f_X5_readCommand_j83 E v0 Q (some v0) (0:Int32) (9999:Int32) l1 l2 x12 h11))))
def f_X5_readCommand_j19 (E : Nat → Nat) (v0 : Nat) (Q : hH → Prop) (s0 : Option Nat) (s1 : Int32) (h : hH) : Prop :=
isT h s0 3 fun a15 => f_X5_failsIf E a15 s1 (-15:Int32) h (fun h14 =>
isT h14 (some v0) 3 fun a17 => f_X5_goOn E a17 h14 (fun h16 =>
isT h16 (some v0) 3 fun a20 => f_X5_known E a20 h16 (fun x19 h18 =>
isT h18 (some v0) 3 fun a23 => f_X5_wordOf E a23 (some (E 35)) h18 (fun x22 h21 =>
cnd (x22 = (-1:Int32)) (f_X5_readCommand_j51 E v0 Q (some v0) (1:Int32) x19 x22 h21) (f_X5_readCommand_j51 E v0 Q (some v0) (0:Int32) x19 x22 h21)))))
def f_X5_readCommand (E : Nat → Nat) (v0 : Nat) (h : hH) (Q : hH → Prop) : Prop :=
gR h (some v0) 3 5 fun x24 =>
ldI h x24 0 (1708:Int32) fun x25 =>
cnd (x25 = (8:Int32)) (f_X5_readCommand_j19 E v0 Q (some v0) (1:Int32) h) (f_X5_readCommand_j19 E v0 Q (some v0) (0:Int32) h)
def f_X5_sets (E : Nat → Nat) (v0 : Nat) (v1 : Int32) (v2 : Int32) (v3 : Int32) (h : hH) (Q : hH → Prop) : Prop :=
gR h (some v0) 3 5 fun x1 =>
stI h x1 0 (((3:Int32) + ((64:Int32) * v1)) + v2) v3 fun h2 =>
Q h2
def f_X5_comes_l8 (E : Nat → Nat) (v0 : Nat) (Q : hH → Prop) (K29 : Int32 → Int32 → Int32 → hH → Prop) : Nat → Int32 → Int32 → Int32 → Int32 → hH → Prop
  | 0, _, _, _, _, _ => False
  | n + 1, l1, l2, l3, l4, h => cnd ((64:Int32) ≤ l4) (K29 l1 l2 l3 h) (isT h (some v0) 3 fun a2 => f_X5_sets E a2 l3 l4 (0:Int32) h (fun h1 =>
(f_X5_comes_l8 E v0 Q K29 n) l1 l2 l3 (l4 + (1:Int32)) h1))
def f_X5_comes (E : Nat → Nat) (v0 : Nat) (v1 : Int32) (v2 : Int32) (h : hH) (Q : hH → Prop) : Prop :=
isT h (some v0) 3 fun a5 => f_X5_members E a5 h (fun x4 h3 =>
f_X5_comes_l8 E v0 Q (fun l1 l2 l3 h => isT h (some v0) 3 fun a7 => f_X5_sets E a7 l3 (0:Int32) l1 h (fun h6 =>
isT h6 (some v0) 3 fun a9 => f_X5_sets E a9 l3 (1:Int32) l2 h6 (fun h8 =>
isT h8 (some v0) 3 fun a11 => f_X5_sets E a11 l3 (6:Int32) l2 h8 (fun h10 =>
isT h10 (some v0) 3 fun a13 => f_X5_sets E a13 l3 (2:Int32) (1:Int32) h10 (fun h12 =>
gR h12 (some v0) 3 5 fun x14 =>
ldI h12 x14 0 (2:Int32) fun x15 =>
stI h12 x14 0 (2:Int32) (x15 + (1:Int32)) fun h16 =>
Q h16))))) 1000000 v1 v2 x4 (0:Int32) h3)
def f_X5_readMember_j51 (E : Nat → Nat) (v0 : Nat) (Q : hH → Prop) (s0 : Option Nat) (s1 : Int32) (l1 : Int32) (h : hH) : Prop :=
isT h s0 3 fun a2 => f_X5_failsIf E a2 s1 (-14:Int32) h (fun h1 =>
isT h1 (some v0) 3 fun a4 => f_X5_goOn E a4 h1 (fun h3 =>
isT h3 (some v0) 3 fun a7 => f_X5_integer E a7 (1:Int32) (4:Int32) h3 (fun x6 h5 =>
gI h5 (some v0) 3 19 fun x8 =>
cnd (x8 = (0:Int32)) (gR h5 (some v0) 3 3 fun x9 =>
isT h5 (some v0) 3 fun a12 => f_X5_members E a12 h5 (fun x11 h10 =>
stI h10 x9 0 ((16:Int32) + x11) l1 fun h13 =>
isT h13 (some v0) 3 fun a15 => f_X5_comes E a15 x6 (0:Int32) h13 (fun h14 =>
Q h14))) (Q h5))))
def f_X5_readMember_j50 (E : Nat → Nat) (v0 : Nat) (Q : hH → Prop) (s0 : Option Nat) (l1 : Int32) (h : hH) : Prop :=
f_X5_readMember_j51 E v0 Q s0 (0:Int32) l1 h
def f_X5_readMember_j15 (E : Nat → Nat) (v0 : Nat) (Q : hH → Prop) (s0 : Option Nat) (s1 : Int32) (h : hH) : Prop :=
isT h s0 3 fun a17 => f_X5_failsIf E a17 s1 (-15:Int32) h (fun h16 =>
isT h16 (some v0) 3 fun a19 => f_X5_goOn E a19 h16 (fun h18 =>
isT h18 (some v0) 3 fun a22 => f_X5_nameHere E a22 h18 (fun x21 h20 =>
gI h20 (some v0) 3 19 fun x23 =>
cnd (x23 = (0:Int32)) (isT h20 (some v0) 3 fun a26 => f_X5_found E a26 x21 h20 (fun x25 h24 =>
cnd (x25 = (-1:Int32)) (f_X5_readMember_j50 E v0 Q (some v0) x21 h24) (f_X5_readMember_j51 E v0 Q (some v0) (1:Int32) x21 h24))) (f_X5_readMember_j50 E v0 Q (some v0) x21 h20))))
def f_X5_readMember (E : Nat → Nat) (v0 : Nat) (h : hH) (Q : hH → Prop) : Prop :=
isT h (some v0) 3 fun a29 => f_X5_members E a29 h (fun x28 h27 =>
cnd (x28 = (6:Int32)) (f_X5_readMember_j15 E v0 Q (some v0) (1:Int32) h27) (f_X5_readMember_j15 E v0 Q (some v0) (0:Int32) h27))
def f_X5_readStart_j79 (E : Nat → Nat) (v0 : Nat) (Q : hH → Prop) (K21 : Int32 → hH → Prop) (K97 : hH → Prop) (l1 : Int32) (h : hH) : Prop :=
gI h (some v0) 3 19 fun x1 =>
cnd (x1 = (0:Int32)) (gI h (some v0) 3 17 fun x2 =>
cnd (x2 = (1:Int32)) (K21 (l1 + (1:Int32)) h) (K97 h)) (K97 h)
def f_X5_readStart_j51 (E : Nat → Nat) (v0 : Nat) (Q : hH → Prop) (K21 : Int32 → hH → Prop) (K97 : hH → Prop) (s0 : Option Nat) (s1 : Int32) (l1 : Int32) (h : hH) : Prop :=
isT h s0 3 fun a4 => f_X5_failsIf E a4 s1 (-15:Int32) h (fun h3 =>
isT h3 (some v0) 3 fun a7 => f_X5_integer E a7 (0:Int32) (9999:Int32) h3 (fun x6 h5 =>
gI h5 (some v0) 3 19 fun x8 =>
cnd (x8 = (0:Int32)) (gR h5 (some v0) 3 3 fun x9 =>
stI h5 x9 0 l1 x6 fun h10 =>
f_X5_readStart_j79 E v0 Q K21 K97 l1 h10) (f_X5_readStart_j79 E v0 Q K21 K97 l1 h5)))
def f_X5_readStart_j50 (E : Nat → Nat) (v0 : Nat) (Q : hH → Prop) (K21 : Int32 → hH → Prop) (K97 : hH → Prop) (s0 : Option Nat) (l1 : Int32) (h : hH) : Prop :=
f_X5_readStart_j51 E v0 Q K21 K97 s0 (0:Int32) l1 h
def f_X5_readStart_l21 (E : Nat → Nat) (v0 : Nat) (Q : hH → Prop) (K97 : hH → Prop) : Nat → Int32 → hH → Prop
  | 0, _, _ => False
  | n + 1, l1, h => gI h (some v0) 3 17 fun x11 =>
cnd (x11 = (1:Int32)) (cnd (l1 = (16:Int32)) (gI h (some v0) 3 18 fun x12 =>
cnd ((10000:Int32) ≤ x12) (f_X5_readStart_j50 E v0 Q (f_X5_readStart_l21 E v0 Q K97 n) K97 (some v0) l1 h) (f_X5_readStart_j51 E v0 Q (f_X5_readStart_l21 E v0 Q K97 n) K97 (some v0) (1:Int32) l1 h)) (f_X5_readStart_j50 E v0 Q (f_X5_readStart_l21 E v0 Q K97 n) K97 (some v0) l1 h)) (f_X5_readStart_j50 E v0 Q (f_X5_readStart_l21 E v0 Q K97 n) K97 (some v0) l1 h)
def f_X5_readStart (E : Nat → Nat) (v0 : Nat) (h : hH) (Q : hH → Prop) : Prop :=
gI h (some v0) 3 24 fun x13 =>
isT h (some v0) 3 fun a15 => f_X5_failsIf E a15 x13 (-14:Int32) h (fun h14 =>
pV h14 (some v0) 3 24 (.int (1:Int32)) fun h16 =>
isT h16 (some v0) 3 fun a18 => f_X5_goOn E a18 h16 (fun h17 =>
f_X5_readStart_l21 E v0 Q (fun h => Q h) 1000000 (0:Int32) h17))
def f_X5_readStatement_j107 (E : Nat → Nat) (v0 : Nat) (Q : hH → Prop) (s0 : Option Nat) (s1 : Int32) (h : hH) : Prop :=
isT h s0 3 fun a2 => f_X5_failsIf E a2 s1 (-11:Int32) h (fun h1 =>
isT h1 (some v0) 3 fun a4 => f_X5_goOn E a4 h1 (fun h3 =>
gI h3 (some v0) 3 22 fun x5 =>
pV h3 (some v0) 3 22 (.int (x5 + (1:Int32))) fun h6 =>
Q h6))
def f_X5_readStatement_j93 (E : Nat → Nat) (v0 : Nat) (Q : hH → Prop) (h : hH) : Prop :=
gI h (some v0) 3 17 fun x7 =>
cnd (x7 = (2:Int32)) (f_X5_readStatement_j107 E v0 Q (some v0) (0:Int32) h) (f_X5_readStatement_j107 E v0 Q (some v0) (1:Int32) h)
def f_X5_readStatement (E : Nat → Nat) (v0 : Nat) (h : hH) (Q : hH → Prop) : Prop :=
isT h (some v0) 3 fun a10 => f_X5_wordOf E a10 (some (E 37)) h (fun x9 h8 =>
cnd (x9 = (0:Int32)) (isT h8 (some v0) 3 fun a12 => f_X5_readStart E a12 h8 (fun h11 =>
f_X5_readStatement_j93 E v0 Q h11)) <| cnd (x9 = (1:Int32)) (isT h8 (some v0) 3 fun a14 => f_X5_readMember E a14 h8 (fun h13 =>
f_X5_readStatement_j93 E v0 Q h13)) <| cnd (x9 = (2:Int32)) (isT h8 (some v0) 3 fun a16 => f_X5_readCommand E a16 h8 (fun h15 =>
f_X5_readStatement_j93 E v0 Q h15)) <| cnd (x9 = (3:Int32)) (isT h8 (some v0) 3 fun a18 => f_X5_readSeal E a18 h8 (fun h17 =>
f_X5_readStatement_j93 E v0 Q h17)) <| cnd (x9 = (4:Int32)) (isT h8 (some v0) 3 fun a20 => f_X5_readFault E a20 h8 (fun h19 =>
f_X5_readStatement_j93 E v0 Q h19)) <| cnd (x9 = (5:Int32)) (isT h8 (some v0) 3 fun a22 => f_X5_readSetting E a22 h8 (fun h21 =>
f_X5_readStatement_j93 E v0 Q h21)) <| isT h8 (some v0) 3 fun a24 => f_X5_failsIf E a24 (1:Int32) (-11:Int32) h8 (fun h23 =>
f_X5_readStatement_j93 E v0 Q h23))
def f_X5_of (E : Nat → Nat) (v0 : Nat) (v1 : Int32) (v2 : Int32) (h : hH) (Q : Int32 → hH → Prop) : Prop :=
gR h (some v0) 3 5 fun x1 =>
ldI h x1 0 (((3:Int32) + ((64:Int32) * v1)) + v2) fun x2 =>
Q x2 h
def f_X5_turnsDone (E : Nat → Nat) (v0 : Nat) (v1 : Int32) (h : hH) (Q : Int32 → hH → Prop) : Prop :=
isT h (some v0) 3 fun a3 => f_X5_of E a3 v1 (1:Int32) h (fun x2 h1 =>
Q x2 h1)
def f_X5_takesCells_l2 (E : Nat → Nat) (v0 : Nat) (Q : hH → Prop) (K29 : hH → Prop) : Nat → Int32 → Int32 → hH → Prop
  | 0, _, _, _ => False
  | n + 1, l1, l2, h => cnd ((16:Int32) ≤ l2) (K29 h) (gR h (some v0) 3 9 fun x1 =>
isT h (some v0) 3 fun a4 => f_X5_of E a4 l1 ((7:Int32) + l2) h (fun x3 h2 =>
stI h2 x1 0 l2 x3 fun h5 =>
(f_X5_takesCells_l2 E v0 Q K29 n) l1 (l2 + (1:Int32)) h5))
def f_X5_takesCells (E : Nat → Nat) (v0 : Nat) (v1 : Int32) (h : hH) (Q : hH → Prop) : Prop :=
f_X5_takesCells_l2 E v0 Q (fun h => Q h) 1000000 v1 (0:Int32) h
def f_X5_laysTree_l40 (E : Nat → Nat) (v0 : Nat) (Q : hH → Prop) (K89 : hH → Prop) : Nat → Option Nat → Int32 → hH → Prop
  | 0, _, _, _ => False
  | n + 1, l1, l2, h => cnd (l2 ≤ (0:Int32)) (K89 h) (ldI h l1 0 ((2:Int32) * l2) fun x1 =>
ldI h l1 0 (((2:Int32) * l2) + (1:Int32)) fun x2 =>
stI h l1 0 l2 ((lRem ((((69069:Int64) * x1.toInt64) + (((30011:Int64) + ((2:Int32) * l2).toInt64) * x2.toInt64)) + l2.toInt64) (2147483647:Int64)).toInt32) fun h3 =>
(f_X5_laysTree_l40 E v0 Q K89 n) l1 (l2 + (-1:Int32)) h3)
def f_X5_laysTree_l2 (E : Nat → Nat) (v0 : Nat) (Q : hH → Prop) (K37 : Option Nat → hH → Prop) : Nat → Option Nat → Int32 → hH → Prop
  | 0, _, _, _ => False
  | n + 1, l1, l2, h => cnd ((16:Int32) ≤ l2) (K37 l1 h) (gR h (some v0) 3 9 fun x4 =>
ldI h x4 0 l2 fun x5 =>
stI h l1 0 ((16:Int32) + l2) ((((40503:Int32) * x5) + ((977:Int32) * l2)) + (1:Int32)) fun h6 =>
(f_X5_laysTree_l2 E v0 Q K37 n) l1 (l2 + (1:Int32)) h6)
def f_X5_laysTree (E : Nat → Nat) (v0 : Nat) (v1 : Option Nat) (h : hH) (Q : hH → Prop) : Prop :=
f_X5_laysTree_l2 E v0 Q (fun l1 h => f_X5_laysTree_l40 E v0 Q (fun h => Q h) 1000000 l1 (15:Int32) h) 1000000 v1 (0:Int32) h
def f_X5_rootOf (E : Nat → Nat) (v0 : Nat) (v1 : Int32) (h : hH) (Q : Int32 → hH → Prop) : Prop :=
isT h (some v0) 3 fun a2 => f_X5_takesCells E a2 v1 h (fun h1 =>
gR h1 (some v0) 3 10 fun x3 =>
isT h1 (some v0) 3 fun a5 => f_X5_laysTree E a5 x3 h1 (fun h4 =>
gR h4 (some v0) 3 10 fun x6 =>
ldI h4 x6 0 (1:Int32) fun x7 =>
Q x7 h4))
def f_X5_writesRecord (E : Nat → Nat) (v0 : Nat) (v1 : Int32) (h : hH) (Q : hH → Prop) : Prop :=
isT h (some v0) 3 fun a3 => f_X5_turnsDone E a3 v1 h (fun x2 h1 =>
isT h1 (some v0) 3 fun a6 => f_X5_rootOf E a6 v1 h1 (fun x5 h4 =>
isT h4 (some v0) 3 fun a8 => f_X5_sets E a8 v1 ((23:Int32) + x2) x5 h4 (fun h7 =>
Q h7)))
def f_X5_load_l172 (E : Nat → Nat) (v0 : Nat) (Q : Int32 → hH → Prop) (K199 : Int32 → hH → Prop) : Nat → Int32 → Int32 → hH → Prop
  | 0, _, _, _ => False
  | n + 1, l2, l3, h => cnd ((16:Int32) ≤ l3) (K199 l2 h) (gR h (some v0) 3 3 fun x1 =>
ldI h x1 0 l3 fun x2 =>
isT h (some v0) 3 fun a4 => f_X5_sets E a4 l2 ((7:Int32) + l3) x2 h (fun h3 =>
(f_X5_load_l172 E v0 Q K199 n) l2 (l3 + (1:Int32)) h3))
def f_X5_load_l162 (E : Nat → Nat) (v0 : Nat) (Q : Int32 → hH → Prop) (K210 : hH → Prop) : Nat → Int32 → hH → Prop
  | 0, _, _ => False
  | n + 1, l2, h => isT h (some v0) 3 fun a7 => f_X5_members E a7 h (fun x6 h5 =>
cnd (x6 ≤ l2) (K210 h5) (f_X5_load_l172 E v0 Q (fun l2 h => isT h (some v0) 3 fun a9 => f_X5_writesRecord E a9 l2 h (fun h8 =>
(f_X5_load_l162 E v0 Q K210 n) (l2 + (1:Int32)) h8)) 1000000 l2 (0:Int32) h5))
def f_X5_load_l80 (E : Nat → Nat) (v0 : Nat) (Q : Int32 → hH → Prop) (K102 : hH → Prop) : Nat → hH → Prop
  | 0, _ => False
  | n + 1, h => gI h (some v0) 3 19 fun x10 =>
cnd (x10 = (0:Int32)) (gI h (some v0) 3 17 fun x11 =>
cnd (x11 = (3:Int32)) (K102 h) (isT h (some v0) 3 fun a13 => f_X5_readStatement E a13 h (fun h12 =>
(f_X5_load_l80 E v0 Q K102 n) h12))) (K102 h)
def f_X5_load_j123 (E : Nat → Nat) (v0 : Nat) (Q : Int32 → hH → Prop) (s0 : Option Nat) (s1 : Int32) (h : hH) : Prop :=
pV h s0 3 21 (.int s1) fun h14 =>
gI h14 (some v0) 3 19 fun x15 =>
cnd (x15 = (0:Int32)) (f_X5_load_l162 E v0 Q (fun h => pV h (some v0) 3 8 (.int (0:Int32)) fun h16 =>
gI h16 (some v0) 3 22 fun x17 =>
Q x17 h16) 1000000 (0:Int32) h14) (gR h14 (some v0) 3 4 fun x18 =>
gR h14 (some v0) 3 3 fun x19 =>
f_X5_copies E x18 x19 h14 (fun h20 =>
gR h20 (some v0) 3 6 fun x21 =>
gR h20 (some v0) 3 5 fun x22 =>
f_X5_copies E x21 x22 h20 (fun h23 =>
gI h23 (some v0) 3 19 fun x24 =>
Q x24 h23)))
def f_X5_load_j102 (E : Nat → Nat) (v0 : Nat) (Q : Int32 → hH → Prop) (h : hH) : Prop :=
pV h (some v0) 3 2 (.int (0:Int32)) fun h25 =>
gI h25 (some v0) 3 19 fun x26 =>
cnd (x26 = (0:Int32)) (f_X5_load_j123 E v0 Q (some v0) (-1:Int32) h25) (gI h25 (some v0) 3 20 fun x27 =>
f_X5_load_j123 E v0 Q (some v0) x27 h25)
def f_X5_load (E : Nat → Nat) (v0 : Nat) (v1 : Int32) (h : hH) (Q : Int32 → hH → Prop) : Prop :=
pV h (some v0) 3 0 (.int (0:Int32)) fun h28 =>
cnd (v1 < (0:Int32)) (Q (-2:Int32) h28) (gI h28 (some v0) 3 2 fun x29 =>
cnd (v1 ≤ x29) (gR h28 (some v0) 3 3 fun x30 =>
gR h28 (some v0) 3 4 fun x31 =>
f_X5_copies E x30 x31 h28 (fun h32 =>
gR h32 (some v0) 3 5 fun x33 =>
gR h32 (some v0) 3 6 fun x34 =>
f_X5_copies E x33 x34 h32 (fun h35 =>
isT h35 (some v0) 3 fun a37 => f_X5_newRoom E a37 h35 (fun h36 =>
pV h36 (some v0) 3 14 (.int v1) fun h38 =>
pV h38 (some v0) 3 15 (.int (0:Int32)) fun h39 =>
pV h39 (some v0) 3 19 (.int (0:Int32)) fun h40 =>
pV h40 (some v0) 3 22 (.int (0:Int32)) fun h41 =>
pV h41 (some v0) 3 23 (.int (0:Int32)) fun h42 =>
pV h42 (some v0) 3 24 (.int (0:Int32)) fun h43 =>
isT h43 (some v0) 3 fun a45 => f_X5_next E a45 h43 (fun h44 =>
f_X5_load_l80 E v0 Q (fun h => f_X5_load_j102 E v0 Q h) 1000000 h44))))) (Q (-2:Int32) h28))
def f_X5_errorPosition (E : Nat → Nat) (v0 : Nat) (h : hH) (Q : Int32 → hH → Prop) : Prop :=
pV h (some v0) 3 0 (.int (0:Int32)) fun h1 =>
gI h1 (some v0) 3 21 fun x2 =>
Q x2 h1
def f_X5_count (E : Nat → Nat) (v0 : Nat) (v1 : Int32) (h : hH) (Q : Int32 → hH → Prop) : Prop :=
pV h (some v0) 3 0 (.int (0:Int32)) fun h1 =>
cnd (v1 = (0:Int32)) (isT h1 (some v0) 3 fun a4 => f_X5_members E a4 h1 (fun x3 h2 =>
Q x3 h2)) <| cnd (v1 = (1:Int32)) (gR h1 (some v0) 3 5 fun x5 =>
ldI h1 x5 0 (387:Int32) fun x6 =>
Q x6 h1) <| cnd (v1 = (2:Int32)) (gR h1 (some v0) 3 5 fun x7 =>
ldI h1 x7 0 (1708:Int32) fun x8 =>
Q x8 h1) <| cnd (v1 = (3:Int32)) (gR h1 (some v0) 3 5 fun x9 =>
ldI h1 x9 0 (1741:Int32) fun x10 =>
Q x10 h1) <| Q (-2:Int32) h1
def f_X5_undoCount (E : Nat → Nat) (v0 : Nat) (h : hH) (Q : Int32 → hH → Prop) : Prop :=
pV h (some v0) 3 0 (.int (0:Int32)) fun h1 =>
gI h1 (some v0) 3 8 fun x2 =>
Q x2 h1
def f_X5_memberNamed (E : Nat → Nat) (v0 : Nat) (v1 : Int32) (h : hH) (Q : Int32 → hH → Prop) : Prop :=
pV h (some v0) 3 0 (.int (0:Int32)) fun h1 =>
isT h1 (some v0) 3 fun a4 => f_X5_found E a4 v1 h1 (fun x3 h2 =>
Q x3 h2)
def f_X5_isMember (E : Nat → Nat) (v0 : Nat) (v1 : Int32) (h : hH) (Q : Int32 → hH → Prop) : Prop :=
cnd (v1 < (0:Int32)) (Q (0:Int32) h) (isT h (some v0) 3 fun a3 => f_X5_members E a3 h (fun x2 h1 =>
cnd (x2 ≤ v1) (Q (0:Int32) h1) (Q (1:Int32) h1)))
def f_X5_checks_j10 (E : Nat → Nat) (v0 : Nat) (Q : Int32 → hH → Prop) (s0 : Option Nat) (s1 : Int32) (l1 : Int32) (h : hH) : Prop :=
pV h s0 3 0 (.int s1) fun h1 =>
nz l1 ∧ Q l1 h1
def f_X5_checks (E : Nat → Nat) (v0 : Nat) (v1 : Int32) (h : hH) (Q : Int32 → hH → Prop) : Prop :=
cnd (v1 = (0:Int32)) (f_X5_checks_j10 E v0 Q (some v0) (1:Int32) v1 h) (f_X5_checks_j10 E v0 Q (some v0) (0:Int32) v1 h)
def f_X5_memberNumber_j23 (E : Nat → Nat) (v0 : Nat) (Q : Int32 → hH → Prop) (h : hH) : Prop :=
Q (-2:Int32) h
def f_X5_memberNumber (E : Nat → Nat) (v0 : Nat) (v1 : Int32) (v2 : Int32) (h : hH) (Q : Int32 → hH → Prop) : Prop :=
isT h (some v0) 3 fun a3 => f_X5_isMember E a3 v1 h (fun x2 h1 =>
isT h1 (some v0) 3 fun a6 => f_X5_checks E a6 x2 h1 (fun x5 h4 =>
cnd (x5 = (0:Int32)) (Q (0:Int32) h4) (cnd (v2 < (0:Int32)) (f_X5_memberNumber_j23 E v0 Q h4) (cnd (v2 ≤ (5:Int32)) (isT h4 (some v0) 3 fun a9 => f_X5_of E a9 v1 v2 h4 (fun x8 h7 =>
Q x8 h7)) (f_X5_memberNumber_j23 E v0 Q h4)))))
def f_X5_isSetting_j9 (E : Nat → Nat) (Q : Int32 → hH → Prop) (h : hH) : Prop :=
Q (1:Int32) h
def f_X5_isSetting (E : Nat → Nat) (v0 : Int32) (h : hH) (Q : Int32 → hH → Prop) : Prop :=
cnd (v0 = (0:Int32)) (f_X5_isSetting_j9 E Q h) (cnd (v0 = (1:Int32)) (f_X5_isSetting_j9 E Q h) (Q (0:Int32) h))
def f_X5_getSetting (E : Nat → Nat) (v0 : Nat) (v1 : Int32) (h : hH) (Q : Int32 → hH → Prop) : Prop :=
pV h (some v0) 3 0 (.int (0:Int32)) fun h1 =>
f_X5_isSetting E v1 h1 (fun x3 h2 =>
cnd (x3 = (0:Int32)) (Q (-2:Int32) h2) (gR h2 (some v0) 3 5 fun x4 =>
ldI h2 x4 0 ((0:Int32) + v1) fun x5 =>
Q x5 h2))
def f_X5_isCell (E : Nat → Nat) (v0 : Int32) (h : hH) (Q : Int32 → hH → Prop) : Prop :=
cnd (v0 < (0:Int32)) (Q (0:Int32) h) (cnd ((16:Int32) ≤ v0) (Q (0:Int32) h) (Q (1:Int32) h))
def f_X5_cellOf_j21 (E : Nat → Nat) (v0 : Nat) (Q : Int32 → hH → Prop) (s0 : Option Nat) (s1 : Int32) (l1 : Int32) (l2 : Int32) (h : hH) : Prop :=
isT h s0 3 fun a3 => f_X5_checks E a3 s1 h (fun x2 h1 =>
cnd (x2 = (0:Int32)) (Q (0:Int32) h1) (isT h1 (some v0) 3 fun a6 => f_X5_of E a6 l1 ((7:Int32) + l2) h1 (fun x5 h4 =>
Q x5 h4)))
def f_X5_cellOf_j20 (E : Nat → Nat) (v0 : Nat) (Q : Int32 → hH → Prop) (s0 : Option Nat) (l1 : Int32) (l2 : Int32) (h : hH) : Prop :=
f_X5_cellOf_j21 E v0 Q s0 (0:Int32) l1 l2 h
def f_X5_cellOf (E : Nat → Nat) (v0 : Nat) (v1 : Int32) (v2 : Int32) (h : hH) (Q : Int32 → hH → Prop) : Prop :=
isT h (some v0) 3 fun a9 => f_X5_isMember E a9 v1 h (fun x8 h7 =>
cnd (x8 = (0:Int32)) (f_X5_cellOf_j20 E v0 Q (some v0) v1 v2 h7) (f_X5_isCell E v2 h7 (fun x11 h10 =>
cnd (x11 = (0:Int32)) (f_X5_cellOf_j20 E v0 Q (some v0) v1 v2 h10) (f_X5_cellOf_j21 E v0 Q (some v0) (1:Int32) v1 v2 h10))))
def f_X5_isTurn (E : Nat → Nat) (v0 : Nat) (v1 : Int32) (h : hH) (Q : Int32 → hH → Prop) : Prop :=
cnd (v1 < (0:Int32)) (Q (0:Int32) h) (gR h (some v0) 3 5 fun x1 =>
ldI h x1 0 (387:Int32) fun x2 =>
cnd (x2 ≤ v1) (Q (0:Int32) h) (Q (1:Int32) h))
def f_X5_commandCount (E : Nat → Nat) (v0 : Nat) (v1 : Int32) (h : hH) (Q : Int32 → hH → Prop) : Prop :=
isT h (some v0) 3 fun a3 => f_X5_isTurn E a3 v1 h (fun x2 h1 =>
isT h1 (some v0) 3 fun a6 => f_X5_checks E a6 x2 h1 (fun x5 h4 =>
cnd (x5 = (0:Int32)) (Q (0:Int32) h4) (gR h4 (some v0) 3 5 fun x7 =>
ldI h4 x7 0 ((388:Int32) + ((33:Int32) * v1)) fun x8 =>
Q x8 h4)))
def f_X5_command_j50 (E : Nat → Nat) (v0 : Nat) (Q : Int32 → hH → Prop) (h : hH) : Prop :=
Q (-2:Int32) h
def f_X5_command (E : Nat → Nat) (v0 : Nat) (v1 : Int32) (v2 : Int32) (v3 : Int32) (h : hH) (Q : Int32 → hH → Prop) : Prop :=
isT h (some v0) 3 fun a3 => f_X5_isTurn E a3 v1 h (fun x2 h1 =>
isT h1 (some v0) 3 fun a6 => f_X5_checks E a6 x2 h1 (fun x5 h4 =>
cnd (x5 = (0:Int32)) (Q (0:Int32) h4) (cnd (v2 < (0:Int32)) (Q (-1:Int32) h4) (gR h4 (some v0) 3 5 fun x7 =>
ldI h4 x7 0 ((388:Int32) + ((33:Int32) * v1)) fun x8 =>
cnd (v2 < x8) (cnd (v3 < (0:Int32)) (f_X5_command_j50 E v0 Q h4) (cnd (v3 ≤ (3:Int32)) (gR h4 (some v0) 3 5 fun x9 =>
ldI h4 x9 0 (((((388:Int32) + ((33:Int32) * v1)) + (1:Int32)) + ((4:Int32) * v2)) + v3) fun x10 =>
Q x10 h4) (f_X5_command_j50 E v0 Q h4))) (Q (-1:Int32) h4)))))
def f_X5_fault (E : Nat → Nat) (v0 : Nat) (v1 : Int32) (v2 : Int32) (h : hH) (Q : Int32 → hH → Prop) : Prop :=
gR h (some v0) 3 5 fun x1 =>
ldI h x1 0 (((1742:Int32) + ((4:Int32) * v1)) + v2) fun x2 =>
Q x2 h
def f_X5_faultNumber_j39 (E : Nat → Nat) (v0 : Nat) (Q : Int32 → hH → Prop) (h : hH) : Prop :=
Q (-2:Int32) h
def f_X5_faultNumber_j22 (E : Nat → Nat) (v0 : Nat) (Q : Int32 → hH → Prop) (s0 : Option Nat) (s1 : Int32) (l1 : Int32) (l2 : Int32) (h : hH) : Prop :=
isT h s0 3 fun a3 => f_X5_checks E a3 s1 h (fun x2 h1 =>
cnd (x2 = (0:Int32)) (Q (0:Int32) h1) (cnd (l2 < (0:Int32)) (f_X5_faultNumber_j39 E v0 Q h1) (cnd (l2 ≤ (3:Int32)) (isT h1 (some v0) 3 fun a6 => f_X5_fault E a6 l1 l2 h1 (fun x5 h4 =>
Q x5 h4)) (f_X5_faultNumber_j39 E v0 Q h1))))
def f_X5_faultNumber_j21 (E : Nat → Nat) (v0 : Nat) (Q : Int32 → hH → Prop) (s0 : Option Nat) (l1 : Int32) (l2 : Int32) (h : hH) : Prop :=
f_X5_faultNumber_j22 E v0 Q s0 (0:Int32) l1 l2 h
def f_X5_faultNumber (E : Nat → Nat) (v0 : Nat) (v1 : Int32) (v2 : Int32) (h : hH) (Q : Int32 → hH → Prop) : Prop :=
cnd (v1 < (0:Int32)) (f_X5_faultNumber_j21 E v0 Q (some v0) v1 v2 h) (gR h (some v0) 3 5 fun x7 =>
ldI h x7 0 (1741:Int32) fun x8 =>
cnd (x8 ≤ v1) (f_X5_faultNumber_j21 E v0 Q (some v0) v1 v2 h) (f_X5_faultNumber_j22 E v0 Q (some v0) (1:Int32) v1 v2 h))
def f_X5_checksum (E : Nat → Nat) (v0 : Nat) (v1 : Int32) (v2 : Int32) (h : hH) (Q : Int32 → hH → Prop) : Prop :=
isT h (some v0) 3 fun a3 => f_X5_isMember E a3 v1 h (fun x2 h1 =>
isT h1 (some v0) 3 fun a6 => f_X5_checks E a6 x2 h1 (fun x5 h4 =>
cnd (x5 = (0:Int32)) (Q (0:Int32) h4) (cnd (v2 < (1:Int32)) (Q (-2:Int32) h4) (cnd (v2 ≤ (31:Int32)) (isT h4 (some v0) 3 fun a8 => f_X5_takesCells E a8 v1 h4 (fun h7 =>
gR h7 (some v0) 3 10 fun x9 =>
isT h7 (some v0) 3 fun a11 => f_X5_laysTree E a11 x9 h7 (fun h10 =>
gR h10 (some v0) 3 10 fun x12 =>
ldI h10 x12 0 v2 fun x13 =>
Q x13 h10))) (Q (-2:Int32) h4)))))
def f_X5_hasAt (E : Nat → Nat) (v0 : Nat) (v1 : Int32) (v2 : Int32) (h : hH) (Q : Int32 → hH → Prop) : Prop :=
isT h (some v0) 3 fun a3 => f_X5_of E a3 v1 (6:Int32) h (fun x2 h1 =>
cnd (v2 < x2) (Q (0:Int32) h1) (isT h1 (some v0) 3 fun a6 => f_X5_turnsDone E a6 v1 h1 (fun x5 h4 =>
cnd (x5 < v2) (Q (0:Int32) h4) (Q (1:Int32) h4))))
def f_X5_record (E : Nat → Nat) (v0 : Nat) (v1 : Int32) (v2 : Int32) (h : hH) (Q : Int32 → hH → Prop) : Prop :=
isT h (some v0) 3 fun a3 => f_X5_of E a3 v1 ((23:Int32) + v2) h (fun x2 h1 =>
Q x2 h1)
def f_X5_rootAt (E : Nat → Nat) (v0 : Nat) (v1 : Int32) (v2 : Int32) (h : hH) (Q : Int32 → hH → Prop) : Prop :=
isT h (some v0) 3 fun a3 => f_X5_isMember E a3 v1 h (fun x2 h1 =>
isT h1 (some v0) 3 fun a6 => f_X5_checks E a6 x2 h1 (fun x5 h4 =>
cnd (x5 = (0:Int32)) (Q (0:Int32) h4) (isT h4 (some v0) 3 fun a9 => f_X5_hasAt E a9 v1 v2 h4 (fun x8 h7 =>
cnd (x8 = (0:Int32)) (Q (-1:Int32) h7) (isT h7 (some v0) 3 fun a12 => f_X5_record E a12 v1 v2 h7 (fun x11 h10 =>
Q x11 h10))))))
def f_X5_checksBoth_j22 (E : Nat → Nat) (v0 : Nat) (Q : Int32 → hH → Prop) (s0 : Option Nat) (s1 : Int32) (h : hH) : Prop :=
isT h s0 3 fun a3 => f_X5_checks E a3 s1 h (fun x2 h1 =>
nz x2 ∧ Q x2 h1)
def f_X5_checksBoth_j21 (E : Nat → Nat) (v0 : Nat) (Q : Int32 → hH → Prop) (s0 : Option Nat) (h : hH) : Prop :=
f_X5_checksBoth_j22 E v0 Q s0 (0:Int32) h
def f_X5_checksBoth (E : Nat → Nat) (v0 : Nat) (v1 : Int32) (v2 : Int32) (h : hH) (Q : Int32 → hH → Prop) : Prop :=
isT h (some v0) 3 fun a6 => f_X5_isMember E a6 v1 h (fun x5 h4 =>
cnd (x5 = (0:Int32)) (f_X5_checksBoth_j21 E v0 Q (some v0) h4) (isT h4 (some v0) 3 fun a9 => f_X5_isMember E a9 v2 h4 (fun x8 h7 =>
cnd (x8 = (0:Int32)) (f_X5_checksBoth_j21 E v0 Q (some v0) h7) (f_X5_checksBoth_j22 E v0 Q (some v0) (1:Int32) h7))))
def f_X5_lowCommon (E : Nat → Nat) (v0 : Nat) (v1 : Int32) (v2 : Int32) (h : hH) (Q : Int32 → hH → Prop) : Prop :=
isT h (some v0) 3 fun a3 => f_X5_of E a3 v1 (6:Int32) h (fun x2 h1 =>
isT h1 (some v0) 3 fun a6 => f_X5_of E a6 v2 (6:Int32) h1 (fun x5 h4 =>
Q (iMax x2 x5) h4))
def f_X5_highCommon (E : Nat → Nat) (v0 : Nat) (v1 : Int32) (v2 : Int32) (h : hH) (Q : Int32 → hH → Prop) : Prop :=
isT h (some v0) 3 fun a3 => f_X5_turnsDone E a3 v1 h (fun x2 h1 =>
isT h1 (some v0) 3 fun a6 => f_X5_turnsDone E a6 v2 h1 (fun x5 h4 =>
Q (iMin x2 x5) h4))
def f_X5_differ (E : Nat → Nat) (v0 : Nat) (v1 : Int32) (v2 : Int32) (v3 : Int32) (h : hH) (Q : Int32 → hH → Prop) : Prop :=
isT h (some v0) 3 fun a3 => f_X5_record E a3 v1 v3 h (fun x2 h1 =>
isT h1 (some v0) 3 fun a6 => f_X5_record E a6 v2 v3 h1 (fun x5 h4 =>
cnd (x2 = x5) (Q (0:Int32) h4) (Q (1:Int32) h4)))
def f_X5_linear_l7 (E : Nat → Nat) (v0 : Nat) (Q : Int32 → hH → Prop) (K27 : Int32 → hH → Prop) (K35 : hH → Prop) : Nat → Int32 → Int32 → Int32 → hH → Prop
  | 0, _, _, _, _ => False
  | n + 1, l1, l2, l3, h => isT h (some v0) 3 fun a3 => f_X5_highCommon E a3 l1 l2 h (fun x2 h1 =>
cnd (x2 < l3) (K35 h1) (isT h1 (some v0) 3 fun a6 => f_X5_differ E a6 l1 l2 l3 h1 (fun x5 h4 =>
cnd (x5 = (0:Int32)) ((f_X5_linear_l7 E v0 Q K27 K35 n) l1 l2 (l3 + (1:Int32)) h4) (K27 l3 h4))))
def f_X5_linear (E : Nat → Nat) (v0 : Nat) (v1 : Int32) (v2 : Int32) (h : hH) (Q : Int32 → hH → Prop) : Prop :=
isT h (some v0) 3 fun a9 => f_X5_lowCommon E a9 v1 v2 h (fun x8 h7 =>
f_X5_linear_l7 E v0 Q (fun l3 h => Q l3 h) (fun h => Q (-1:Int32) h) 1000000 v1 v2 x8 h7)
def f_X5_firstWrongTurn (E : Nat → Nat) (v0 : Nat) (v1 : Int32) (v2 : Int32) (h : hH) (Q : Int32 → hH → Prop) : Prop :=
isT h (some v0) 3 fun a3 => f_X5_checksBoth E a3 v1 v2 h (fun x2 h1 =>
cnd (x2 = (0:Int32)) (Q (0:Int32) h1) (isT h1 (some v0) 3 fun a6 => f_X5_linear E a6 v1 v2 h1 (fun x5 h4 =>
Q x5 h4)))
def f_X5_halved_l34 (E : Nat → Nat) (v0 : Nat) (Q : Int32 → hH → Prop) (K74 : Int32 → hH → Prop) : Nat → Int32 → Int32 → Int32 → Int32 → hH → Prop
  | 0, _, _, _, _, _ => False
  | n + 1, l1, l2, l3, l4, h => cnd (l4 ≤ l3) (K74 l3 h) (isT h (some v0) 3 fun a3 => f_X5_differ E a3 l1 l2 ((l3 + l4) / (2:Int32)) h (fun x2 h1 =>
cnd (x2 = (0:Int32)) ((f_X5_halved_l34 E v0 Q K74 n) l1 l2 (((l3 + l4) / (2:Int32)) + (1:Int32)) l4 h1) ((f_X5_halved_l34 E v0 Q K74 n) l1 l2 l3 ((l3 + l4) / (2:Int32)) h1)))
def f_X5_halved (E : Nat → Nat) (v0 : Nat) (v1 : Int32) (v2 : Int32) (h : hH) (Q : Int32 → hH → Prop) : Prop :=
isT h (some v0) 3 fun a6 => f_X5_lowCommon E a6 v1 v2 h (fun x5 h4 =>
isT h4 (some v0) 3 fun a9 => f_X5_highCommon E a9 v1 v2 h4 (fun x8 h7 =>
cnd (x8 < x5) (Q (-1:Int32) h7) (isT h7 (some v0) 3 fun a12 => f_X5_differ E a12 v1 v2 x8 h7 (fun x11 h10 =>
cnd (x11 = (0:Int32)) (Q (-1:Int32) h10) (f_X5_halved_l34 E v0 Q (fun l3 h => Q l3 h) 1000000 v1 v2 x5 x8 h10)))))
def f_X5_halvedTurn (E : Nat → Nat) (v0 : Nat) (v1 : Int32) (v2 : Int32) (h : hH) (Q : Int32 → hH → Prop) : Prop :=
isT h (some v0) 3 fun a3 => f_X5_checksBoth E a3 v1 v2 h (fun x2 h1 =>
cnd (x2 = (0:Int32)) (Q (0:Int32) h1) (isT h1 (some v0) 3 fun a6 => f_X5_halved E a6 v1 v2 h1 (fun x5 h4 =>
Q x5 h4)))
def f_X5_isHalvingRight (E : Nat → Nat) (v0 : Nat) (v1 : Int32) (v2 : Int32) (h : hH) (Q : Int32 → hH → Prop) : Prop :=
isT h (some v0) 3 fun a3 => f_X5_checksBoth E a3 v1 v2 h (fun x2 h1 =>
cnd (x2 = (0:Int32)) (Q (0:Int32) h1) (isT h1 (some v0) 3 fun a6 => f_X5_halved E a6 v1 v2 h1 (fun x5 h4 =>
isT h4 (some v0) 3 fun a9 => f_X5_linear E a9 v1 v2 h4 (fun x8 h7 =>
cnd (x5 = x8) (Q (1:Int32) h7) (Q (0:Int32) h7)))))
def f_X5_laysBoth (E : Nat → Nat) (v0 : Nat) (v1 : Int32) (v2 : Int32) (h : hH) (Q : hH → Prop) : Prop :=
isT h (some v0) 3 fun a2 => f_X5_takesCells E a2 v1 h (fun h1 =>
gR h1 (some v0) 3 10 fun x3 =>
isT h1 (some v0) 3 fun a5 => f_X5_laysTree E a5 x3 h1 (fun h4 =>
isT h4 (some v0) 3 fun a7 => f_X5_takesCells E a7 v2 h4 (fun h6 =>
gR h6 (some v0) 3 11 fun x8 =>
isT h6 (some v0) 3 fun a10 => f_X5_laysTree E a10 x8 h6 (fun h9 =>
Q h9))))
def f_X5_goesDown (E : Nat → Nat) : Nat → Nat → Int32 → hH → (hH → Prop) → Prop
  | 0, _, _, _, _ => False
  | d + 1, v0, v1, h, Q => gI h (some v0) 3 13 fun x1 =>
pV h (some v0) 3 13 (.int (x1 + (1:Int32))) fun h2 =>
gR h2 (some v0) 3 10 fun x3 =>
ldI h2 x3 0 v1 fun x4 =>
gR h2 (some v0) 3 11 fun x5 =>
ldI h2 x5 0 v1 fun x6 =>
cnd (x4 = x6) (Q h2) (cnd (v1 < (16:Int32)) (isT h2 (some v0) 3 fun a8 => f_X5_goesDown E d a8 ((2:Int32) * v1) h2 (fun h7 =>
isT h7 (some v0) 3 fun a10 => f_X5_goesDown E d a10 (((2:Int32) * v1) + (1:Int32)) h7 (fun h9 =>
Q h9))) (gI h2 (some v0) 3 12 fun x11 =>
pV h2 (some v0) 3 12 (.int (x11 ||| ((1:Int32) <<< ((v1 - (16:Int32)) &&& 31)))) fun h12 =>
Q h12))
def f_X5_compares (E : Nat → Nat) (v0 : Nat) (v1 : Int32) (v2 : Int32) (h : hH) (Q : hH → Prop) : Prop :=
pV h (some v0) 3 12 (.int (0:Int32)) fun h1 =>
pV h1 (some v0) 3 13 (.int (0:Int32)) fun h2 =>
isT h2 (some v0) 3 fun a4 => f_X5_laysBoth E a4 v1 v2 h2 (fun h3 =>
isT h3 (some v0) 3 fun a6 => f_X5_goesDown E 6 a6 (1:Int32) h3 (fun h5 =>
Q h5))
def f_X5_firstWrongCell_l35 (E : Nat → Nat) (v0 : Nat) (Q : Int32 → hH → Prop) (K58 : Int32 → hH → Prop) : Nat → Int32 → hH → Prop
  | 0, _, _ => False
  | n + 1, l3, h => cnd ((16:Int32) ≤ l3) (K58 l3 h) (gI h (some v0) 3 12 fun x1 =>
cnd (((x1 >>> (l3 &&& 31)) &&& (1:Int32)) = (0:Int32)) ((f_X5_firstWrongCell_l35 E v0 Q K58 n) (l3 + (1:Int32)) h) (K58 l3 h))
def f_X5_firstWrongCell_j58 (E : Nat → Nat) (v0 : Nat) (Q : Int32 → hH → Prop) (l3 : Int32) (h : hH) : Prop :=
cnd ((16:Int32) ≤ l3) (Q (-1:Int32) h) (Q l3 h)
def f_X5_firstWrongCell (E : Nat → Nat) (v0 : Nat) (v1 : Int32) (v2 : Int32) (h : hH) (Q : Int32 → hH → Prop) : Prop :=
isT h (some v0) 3 fun a4 => f_X5_checksBoth E a4 v1 v2 h (fun x3 h2 =>
cnd (x3 = (0:Int32)) (Q (0:Int32) h2) (isT h2 (some v0) 3 fun a7 => f_X5_turnsDone E a7 v1 h2 (fun x6 h5 =>
isT h5 (some v0) 3 fun a10 => f_X5_turnsDone E a10 v2 h5 (fun x9 h8 =>
cnd (x6 = x9) (isT h8 (some v0) 3 fun a12 => f_X5_compares E a12 v1 v2 h8 (fun h11 =>
f_X5_firstWrongCell_l35 E v0 Q (fun l3 h => f_X5_firstWrongCell_j58 E v0 Q l3 h) 1000000 (0:Int32) h11)) (Q (-4:Int32) h8)))))
def f_X5_wrongCells (E : Nat → Nat) (v0 : Nat) (v1 : Int32) (v2 : Int32) (h : hH) (Q : Int32 → hH → Prop) : Prop :=
isT h (some v0) 3 fun a3 => f_X5_checksBoth E a3 v1 v2 h (fun x2 h1 =>
cnd (x2 = (0:Int32)) (Q (0:Int32) h1) (isT h1 (some v0) 3 fun a5 => f_X5_compares E a5 v1 v2 h1 (fun h4 =>
gI h4 (some v0) 3 12 fun x6 =>
Q x6 h4)))
def f_X5_comparisons (E : Nat → Nat) (v0 : Nat) (v1 : Int32) (v2 : Int32) (h : hH) (Q : Int32 → hH → Prop) : Prop :=
isT h (some v0) 3 fun a3 => f_X5_checksBoth E a3 v1 v2 h (fun x2 h1 =>
cnd (x2 = (0:Int32)) (Q (0:Int32) h1) (isT h1 (some v0) 3 fun a5 => f_X5_compares E a5 v1 v2 h1 (fun h4 =>
gI h4 (some v0) 3 13 fun x6 =>
Q x6 h4)))
def f_X5_isActive (E : Nat → Nat) (v0 : Nat) (v1 : Int32) (h : hH) (Q : Int32 → hH → Prop) : Prop :=
isT h (some v0) 3 fun a3 => f_X5_of E a3 v1 (2:Int32) h (fun x2 h1 =>
cnd (x2 = (1:Int32)) (Q (1:Int32) h1) (Q (0:Int32) h1))
def f_X5_votesFor_j55 (E : Nat → Nat) (v0 : Nat) (Q : Int32 → hH → Prop) (K5 : Int32 → Int32 → Int32 → Int32 → hH → Prop) (s0 : Int32) (s1 : Int32) (l1 : Int32) (l2 : Int32) (l4 : Int32) (h : hH) : Prop :=
K5 l1 l2 (s0 + s1) (l4 + (1:Int32)) h
def f_X5_votesFor_j54 (E : Nat → Nat) (v0 : Nat) (Q : Int32 → hH → Prop) (K5 : Int32 → Int32 → Int32 → Int32 → hH → Prop) (s0 : Int32) (l1 : Int32) (l2 : Int32) (l4 : Int32) (h : hH) : Prop :=
f_X5_votesFor_j55 E v0 Q K5 s0 (0:Int32) l1 l2 l4 h
def f_X5_votesFor_l5 (E : Nat → Nat) (v0 : Nat) (Q : Int32 → hH → Prop) (K63 : Int32 → hH → Prop) : Nat → Int32 → Int32 → Int32 → Int32 → hH → Prop
  | 0, _, _, _, _, _ => False
  | n + 1, l1, l2, l3, l4, h => isT h (some v0) 3 fun a3 => f_X5_members E a3 h (fun x2 h1 =>
cnd (x2 ≤ l4) (K63 l3 h1) (isT h1 (some v0) 3 fun a6 => f_X5_isActive E a6 l4 h1 (fun x5 h4 =>
cnd (x5 = (0:Int32)) (f_X5_votesFor_j54 E v0 Q (f_X5_votesFor_l5 E v0 Q K63 n) l3 l1 l2 l4 h4) (isT h4 (some v0) 3 fun a9 => f_X5_hasAt E a9 l4 l2 h4 (fun x8 h7 =>
cnd (x8 = (0:Int32)) (f_X5_votesFor_j54 E v0 Q (f_X5_votesFor_l5 E v0 Q K63 n) l3 l1 l2 l4 h7) (isT h7 (some v0) 3 fun a12 => f_X5_record E a12 l4 l2 h7 (fun x11 h10 =>
isT h10 (some v0) 3 fun a15 => f_X5_record E a15 l1 l2 h10 (fun x14 h13 =>
cnd (x11 = x14) (f_X5_votesFor_j55 E v0 Q (f_X5_votesFor_l5 E v0 Q K63 n) l3 (1:Int32) l1 l2 l4 h13) (f_X5_votesFor_j54 E v0 Q (f_X5_votesFor_l5 E v0 Q K63 n) l3 l1 l2 l4 h13)))))))))
def f_X5_votesFor (E : Nat → Nat) (v0 : Nat) (v1 : Int32) (v2 : Int32) (h : hH) (Q : Int32 → hH → Prop) : Prop :=
f_X5_votesFor_l5 E v0 Q (fun l3 h => Q l3 h) 1000000 v1 v2 (0:Int32) (0:Int32) h
def f_X5_votes (E : Nat → Nat) (v0 : Nat) (v1 : Int32) (v2 : Int32) (h : hH) (Q : Int32 → hH → Prop) : Prop :=
isT h (some v0) 3 fun a3 => f_X5_isMember E a3 v1 h (fun x2 h1 =>
isT h1 (some v0) 3 fun a6 => f_X5_checks E a6 x2 h1 (fun x5 h4 =>
cnd (x5 = (0:Int32)) (Q (0:Int32) h4) (isT h4 (some v0) 3 fun a9 => f_X5_hasAt E a9 v1 v2 h4 (fun x8 h7 =>
cnd (x8 = (0:Int32)) (Q (-1:Int32) h7) (isT h7 (some v0) 3 fun a12 => f_X5_votesFor E a12 v1 v2 h7 (fun x11 h10 =>
Q x11 h10))))))
def f_X5_wins_j60 (E : Nat → Nat) (v0 : Nat) (Q : Int32 → hH → Prop) (K7 : Int32 → Int32 → Int32 → Int32 → hH → Prop) (s0 : Int32) (l1 : Int32) (l3 : Int32) (l4 : Int32) (l5 : Int32) (h : hH) : Prop :=
K7 l1 s0 (iMax l3 l5) (l4 + (1:Int32)) h
def f_X5_wins_j46 (E : Nat → Nat) (v0 : Nat) (Q : Int32 → hH → Prop) (K7 : Int32 → Int32 → Int32 → Int32 → hH → Prop) (s0 : Int32) (l1 : Int32) (l2 : Int32) (l3 : Int32) (l4 : Int32) (h : hH) : Prop :=
cnd (s0 ≤ l3) (f_X5_wins_j60 E v0 Q K7 l2 l1 l3 l4 s0 h) (f_X5_wins_j60 E v0 Q K7 l4 l1 l3 l4 s0 h)
def f_X5_wins_j45 (E : Nat → Nat) (v0 : Nat) (Q : Int32 → hH → Prop) (K7 : Int32 → Int32 → Int32 → Int32 → hH → Prop) (l1 : Int32) (l2 : Int32) (l3 : Int32) (l4 : Int32) (h : hH) : Prop :=
f_X5_wins_j46 E v0 Q K7 (0:Int32) l1 l2 l3 l4 h
def f_X5_wins_l7 (E : Nat → Nat) (v0 : Nat) (Q : Int32 → hH → Prop) (K74 : Int32 → Int32 → hH → Prop) : Nat → Int32 → Int32 → Int32 → Int32 → hH → Prop
  | 0, _, _, _, _, _ => False
  | n + 1, l1, l2, l3, l4, h => isT h (some v0) 3 fun a3 => f_X5_members E a3 h (fun x2 h1 =>
cnd (x2 ≤ l4) (K74 l2 l3 h1) (isT h1 (some v0) 3 fun a6 => f_X5_isActive E a6 l4 h1 (fun x5 h4 =>
cnd (x5 = (0:Int32)) (f_X5_wins_j45 E v0 Q (f_X5_wins_l7 E v0 Q K74 n) l1 l2 l3 l4 h4) (isT h4 (some v0) 3 fun a9 => f_X5_hasAt E a9 l4 l1 h4 (fun x8 h7 =>
cnd (x8 = (0:Int32)) (f_X5_wins_j45 E v0 Q (f_X5_wins_l7 E v0 Q K74 n) l1 l2 l3 l4 h7) (isT h7 (some v0) 3 fun a12 => f_X5_votesFor E a12 l4 l1 h7 (fun x11 h10 =>
f_X5_wins_j46 E v0 Q (f_X5_wins_l7 E v0 Q K74 n) x11 l1 l2 l3 l4 h10)))))))
def f_X5_wins (E : Nat → Nat) (v0 : Nat) (v1 : Int32) (h : hH) (Q : Int32 → hH → Prop) : Prop :=
f_X5_wins_l7 E v0 Q (fun l2 l3 h => gR h (some v0) 3 5 fun x13 =>
ldI h x13 0 (1:Int32) fun x14 =>
cnd (x14 ≤ l3) (Q l2 h) (Q (-1:Int32) h)) 1000000 v1 (-1:Int32) (0:Int32) (0:Int32) h
def f_X5_winner (E : Nat → Nat) (v0 : Nat) (v1 : Int32) (h : hH) (Q : Int32 → hH → Prop) : Prop :=
pV h (some v0) 3 0 (.int (0:Int32)) fun h1 =>
isT h1 (some v0) 3 fun a4 => f_X5_wins E a4 v1 h1 (fun x3 h2 =>
Q x3 h2)
def f_X5_isOff (E : Nat → Nat) (v0 : Nat) (v1 : Int32) (h : hH) (Q : Int32 → hH → Prop) : Prop :=
isT h (some v0) 3 fun a3 => f_X5_turnsDone E a3 v1 h (fun x2 h1 =>
isT h1 (some v0) 3 fun a6 => f_X5_wins E a6 x2 h1 (fun x5 h4 =>
isT h4 (some v0) 3 fun a9 => f_X5_isActive E a9 v1 h4 (fun x8 h7 =>
cnd (x8 = (0:Int32)) (Q (0:Int32) h7) (cnd (x5 = (-1:Int32)) (Q (0:Int32) h7) (isT h7 (some v0) 3 fun a12 => f_X5_record E a12 v1 x2 h7 (fun x11 h10 =>
isT h10 (some v0) 3 fun a15 => f_X5_record E a15 x5 x2 h10 (fun x14 h13 =>
cnd (x11 = x14) (Q (0:Int32) h13) (Q (1:Int32) h13))))))))
def f_X5_isWrong (E : Nat → Nat) (v0 : Nat) (v1 : Int32) (h : hH) (Q : Int32 → hH → Prop) : Prop :=
isT h (some v0) 3 fun a3 => f_X5_isMember E a3 v1 h (fun x2 h1 =>
isT h1 (some v0) 3 fun a6 => f_X5_checks E a6 x2 h1 (fun x5 h4 =>
cnd (x5 = (0:Int32)) (Q (0:Int32) h4) (isT h4 (some v0) 3 fun a9 => f_X5_isOff E a9 v1 h4 (fun x8 h7 =>
cnd (x8 = (0:Int32)) (Q (0:Int32) h7) (Q (1:Int32) h7)))))
def f_X5_wrongMembers_j33 (E : Nat → Nat) (v0 : Nat) (Q : Int32 → hH → Prop) (K9 : Int32 → Int32 → hH → Prop) (s0 : Int32) (s1 : Int32) (l2 : Int32) (h : hH) : Prop :=
K9 (s0 ||| s1) (l2 + (1:Int32)) h
def f_X5_wrongMembers_l9 (E : Nat → Nat) (v0 : Nat) (Q : Int32 → hH → Prop) (K41 : Int32 → hH → Prop) : Nat → Int32 → Int32 → hH → Prop
  | 0, _, _, _ => False
  | n + 1, l1, l2, h => isT h (some v0) 3 fun a3 => f_X5_members E a3 h (fun x2 h1 =>
cnd (x2 ≤ l2) (K41 l1 h1) (isT h1 (some v0) 3 fun a6 => f_X5_isOff E a6 l2 h1 (fun x5 h4 =>
cnd (x5 = (0:Int32)) (f_X5_wrongMembers_j33 E v0 Q (f_X5_wrongMembers_l9 E v0 Q K41 n) l1 (0:Int32) l2 h4) (f_X5_wrongMembers_j33 E v0 Q (f_X5_wrongMembers_l9 E v0 Q K41 n) l1 ((1:Int32) <<< (l2 &&& 31)) l2 h4))))
def f_X5_wrongMembers (E : Nat → Nat) (v0 : Nat) (h : hH) (Q : Int32 → hH → Prop) : Prop :=
pV h (some v0) 3 0 (.int (0:Int32)) fun h7 =>
f_X5_wrongMembers_l9 E v0 Q (fun l1 h => Q l1 h) 1000000 (0:Int32) (0:Int32) h7
def f_X5_giver_j93 (E : Nat → Nat) (v0 : Nat) (Q : Int32 → hH → Prop) (K12 : Int32 → Int32 → Int32 → Int32 → Int32 → hH → Prop) (l1 : Int32) (l2 : Int32) (l3 : Int32) (l5 : Int32) (h : hH) : Prop :=
K12 l1 l2 l3 l5 (l5 + (1:Int32)) h
def f_X5_giver_l12 (E : Nat → Nat) (v0 : Nat) (Q : Int32 → hH → Prop) (K103 : Int32 → hH → Prop) : Nat → Int32 → Int32 → Int32 → Int32 → Int32 → hH → Prop
  | 0, _, _, _, _, _, _ => False
  | n + 1, l1, l2, l3, l4, l5, h => isT h (some v0) 3 fun a3 => f_X5_members E a3 h (fun x2 h1 =>
cnd (x2 ≤ l5) (K103 l4 h1) (cnd (l3 = (-1:Int32)) (K103 l4 h1) (cnd (l5 = l2) ((f_X5_giver_l12 E v0 Q K103 n) l1 l2 l3 l4 (l5 + (1:Int32)) h1) (isT h1 (some v0) 3 fun a6 => f_X5_isActive E a6 l5 h1 (fun x5 h4 =>
cnd (x5 = (0:Int32)) ((f_X5_giver_l12 E v0 Q K103 n) l1 l2 l3 l4 (l5 + (1:Int32)) h4) (isT h4 (some v0) 3 fun a9 => f_X5_turnsDone E a9 l5 h4 (fun x8 h7 =>
cnd (x8 = l1) (isT h7 (some v0) 3 fun a12 => f_X5_record E a12 l5 l1 h7 (fun x11 h10 =>
isT h10 (some v0) 3 fun a15 => f_X5_record E a15 l3 l1 h10 (fun x14 h13 =>
cnd (x11 = x14) (cnd (l4 = (-1:Int32)) (f_X5_giver_j93 E v0 Q (f_X5_giver_l12 E v0 Q K103 n) l1 l2 l3 l5 h13) (isT h13 (some v0) 3 fun a18 => f_X5_of E a18 l5 (3:Int32) h13 (fun x17 h16 =>
isT h16 (some v0) 3 fun a21 => f_X5_of E a21 l4 (3:Int32) h16 (fun x20 h19 =>
cnd (x20 ≤ x17) ((f_X5_giver_l12 E v0 Q K103 n) l1 l2 l3 l4 (l5 + (1:Int32)) h19) (f_X5_giver_j93 E v0 Q (f_X5_giver_l12 E v0 Q K103 n) l1 l2 l3 l5 h19))))) ((f_X5_giver_l12 E v0 Q K103 n) l1 l2 l3 l4 (l5 + (1:Int32)) h13)))) ((f_X5_giver_l12 E v0 Q K103 n) l1 l2 l3 l4 (l5 + (1:Int32)) h7))))))))
def f_X5_giver (E : Nat → Nat) (v0 : Nat) (v1 : Int32) (v2 : Int32) (h : hH) (Q : Int32 → hH → Prop) : Prop :=
isT h (some v0) 3 fun a24 => f_X5_wins E a24 v1 h (fun x23 h22 =>
f_X5_giver_l12 E v0 Q (fun l4 h => Q l4 h) 1000000 v1 v2 x23 (-1:Int32) (0:Int32) h22)
def f_X5_donorFor (E : Nat → Nat) (v0 : Nat) (v1 : Int32) (h : hH) (Q : Int32 → hH → Prop) : Prop :=
isT h (some v0) 3 fun a3 => f_X5_isMember E a3 v1 h (fun x2 h1 =>
isT h1 (some v0) 3 fun a6 => f_X5_checks E a6 x2 h1 (fun x5 h4 =>
cnd (x5 = (0:Int32)) (Q (0:Int32) h4) (isT h4 (some v0) 3 fun a9 => f_X5_turnsDone E a9 v1 h4 (fun x8 h7 =>
isT h7 (some v0) 3 fun a12 => f_X5_giver E a12 x8 v1 h7 (fun x11 h10 =>
Q x11 h10)))))
def f_X5_stops (E : Nat → Nat) (v0 : Nat) (v1 : Int32) (h : hH) (Q : Int32 → hH → Prop) : Prop :=
isT h (some v0) 3 fun a3 => f_X5_isActive E a3 v1 h (fun x2 h1 =>
cnd (x2 = (0:Int32)) (Q (1:Int32) h1) (isT h1 (some v0) 3 fun a6 => f_X5_turnsDone E a6 v1 h1 (fun x5 h4 =>
isT h4 (some v0) 3 fun a9 => f_X5_wins E a9 x5 h4 (fun x8 h7 =>
cnd (x8 = (-1:Int32)) (Q (2:Int32) h7) (isT h7 (some v0) 3 fun a12 => f_X5_isOff E a12 v1 h7 (fun x11 h10 =>
cnd (x11 = (0:Int32)) (Q (3:Int32) h10) (isT h10 (some v0) 3 fun a15 => f_X5_turnsDone E a15 v1 h10 (fun x14 h13 =>
isT h13 (some v0) 3 fun a18 => f_X5_giver E a18 x14 v1 h13 (fun x17 h16 =>
cnd (x17 = (-1:Int32)) (Q (4:Int32) h16) (Q (0:Int32) h16))))))))))
def f_X5_whyNot (E : Nat → Nat) (v0 : Nat) (v1 : Int32) (h : hH) (Q : Int32 → hH → Prop) : Prop :=
isT h (some v0) 3 fun a3 => f_X5_isMember E a3 v1 h (fun x2 h1 =>
isT h1 (some v0) 3 fun a6 => f_X5_checks E a6 x2 h1 (fun x5 h4 =>
cnd (x5 = (0:Int32)) (Q (0:Int32) h4) (isT h4 (some v0) 3 fun a9 => f_X5_stops E a9 v1 h4 (fun x8 h7 =>
Q x8 h7))))
def f_X5_extreme_l4 (E : Nat → Nat) (v0 : Nat) (Q : Int32 → hH → Prop) (K66 : Int32 → hH → Prop) : Nat → Int32 → Int32 → Int32 → hH → Prop
  | 0, _, _, _, _ => False
  | n + 1, l1, l2, l3, h => isT h (some v0) 3 fun a3 => f_X5_members E a3 h (fun x2 h1 =>
cnd (x2 ≤ l3) (K66 l2 h1) (isT h1 (some v0) 3 fun a6 => f_X5_isActive E a6 l3 h1 (fun x5 h4 =>
cnd (x5 = (0:Int32)) ((f_X5_extreme_l4 E v0 Q K66 n) l1 l2 (l3 + (1:Int32)) h4) (isT h4 (some v0) 3 fun a9 => f_X5_turnsDone E a9 l3 h4 (fun x8 h7 =>
cnd (l2 = (-1:Int32)) ((f_X5_extreme_l4 E v0 Q K66 n) l1 x8 (l3 + (1:Int32)) h7) (cnd (l1 = (0:Int32)) ((f_X5_extreme_l4 E v0 Q K66 n) l1 (iMin l2 x8) (l3 + (1:Int32)) h7) ((f_X5_extreme_l4 E v0 Q K66 n) l1 (iMax l2 x8) (l3 + (1:Int32)) h7)))))))
def f_X5_extreme (E : Nat → Nat) (v0 : Nat) (v1 : Int32) (h : hH) (Q : Int32 → hH → Prop) : Prop :=
f_X5_extreme_l4 E v0 Q (fun l2 h => Q l2 h) 1000000 v1 (-1:Int32) (0:Int32) h
def f_X5_reached (E : Nat → Nat) (v0 : Nat) (v1 : Int32) (h : hH) (Q : Int32 → hH → Prop) : Prop :=
pV h (some v0) 3 0 (.int (0:Int32)) fun h1 =>
isT h1 (some v0) 3 fun a4 => f_X5_extreme E a4 v1 h1 (fun x3 h2 =>
Q x3 h2)
def f_X5_may (E : Nat → Nat) (v0 : Nat) (v1 : Int32) (v2 : Int32) (h : hH) (Q : Int32 → hH → Prop) : Prop :=
isT h (some v0) 3 fun a3 => f_X5_isActive E a3 v1 h (fun x2 h1 =>
cnd (x2 = (0:Int32)) (Q (0:Int32) h1) (gR h1 (some v0) 3 5 fun x4 =>
ldI h1 x4 0 (387:Int32) fun x5 =>
gR h1 (some v0) 3 5 fun x6 =>
ldI h1 x6 0 (0:Int32) fun x7 =>
isT h1 (some v0) 3 fun a10 => f_X5_turnsDone E a10 v1 h1 (fun x9 h8 =>
Q (iMax (0:Int32) ((iMin x5 (v2 + x7)) - x9)) h8)))
def f_X5_mayRun (E : Nat → Nat) (v0 : Nat) (v1 : Int32) (h : hH) (Q : Int32 → hH → Prop) : Prop :=
isT h (some v0) 3 fun a3 => f_X5_isMember E a3 v1 h (fun x2 h1 =>
isT h1 (some v0) 3 fun a6 => f_X5_checks E a6 x2 h1 (fun x5 h4 =>
cnd (x5 = (0:Int32)) (Q (0:Int32) h4) (isT h4 (some v0) 3 fun a9 => f_X5_extreme E a9 (0:Int32) h4 (fun x8 h7 =>
isT h7 (some v0) 3 fun a12 => f_X5_may E a12 v1 x8 h7 (fun x11 h10 =>
Q x11 h10)))))
def f_X5_meanTurns_j53 (E : Nat → Nat) (v0 : Nat) (Q : UInt64 → hH → Prop) (K11 : Int32 → Int32 → Int32 → hH → Prop) (s0 : Int32) (s1 : Int32) (l1 : Int32) (l3 : Int32) (h : hH) : Prop :=
K11 l1 (s0 + s1) (l3 + (1:Int32)) h
def f_X5_meanTurns_j37 (E : Nat → Nat) (v0 : Nat) (Q : UInt64 → hH → Prop) (K11 : Int32 → Int32 → Int32 → hH → Prop) (s0 : Int32) (s1 : Int32) (l2 : Int32) (l3 : Int32) (h : hH) : Prop :=
isT h (some v0) 3 fun a3 => f_X5_isActive E a3 l3 h (fun x2 h1 =>
cnd (x2 = (0:Int32)) (f_X5_meanTurns_j53 E v0 Q K11 l2 (0:Int32) (s0 + s1) l3 h1) (f_X5_meanTurns_j53 E v0 Q K11 l2 (1:Int32) (s0 + s1) l3 h1))
def f_X5_meanTurns_l11 (E : Nat → Nat) (v0 : Nat) (Q : UInt64 → hH → Prop) (K61 : Int32 → Int32 → hH → Prop) : Nat → Int32 → Int32 → Int32 → hH → Prop
  | 0, _, _, _, _ => False
  | n + 1, l1, l2, l3, h => isT h (some v0) 3 fun a6 => f_X5_members E a6 h (fun x5 h4 =>
cnd (x5 ≤ l3) (K61 l1 l2 h4) (isT h4 (some v0) 3 fun a9 => f_X5_isActive E a9 l3 h4 (fun x8 h7 =>
cnd (x8 = (0:Int32)) (f_X5_meanTurns_j37 E v0 Q (f_X5_meanTurns_l11 E v0 Q K61 n) l1 (0:Int32) l2 l3 h7) (isT h7 (some v0) 3 fun a12 => f_X5_turnsDone E a12 l3 h7 (fun x11 h10 =>
f_X5_meanTurns_j37 E v0 Q (f_X5_meanTurns_l11 E v0 Q K61 n) l1 x11 l2 l3 h10)))))
def f_X5_meanTurns (E : Nat → Nat) (v0 : Nat) (h : hH) (Q : UInt64 → hH → Prop) : Prop :=
pV h (some v0) 3 0 (.int (0:Int32)) fun h13 =>
f_X5_meanTurns_l11 E v0 Q (fun l1 l2 h => cnd (l2 = (0:Int32)) (Q (0:UInt64) h) (vf_n64 (FP.ddiv (FP.i2d l1) (FP.i2d l2)) ∧ (Q (FP.ddiv (FP.i2d l1) (FP.i2d l2)) h))) 1000000 (0:Int32) (0:Int32) (0:Int32) h13
def f_X5_takesStart_l2 (E : Nat → Nat) (v0 : Nat) (Q : hH → Prop) (K26 : hH → Prop) : Nat → Int32 → hH → Prop
  | 0, _, _ => False
  | n + 1, l1, h => cnd ((16:Int32) ≤ l1) (K26 h) (gR h (some v0) 3 9 fun x1 =>
gR h (some v0) 3 3 fun x2 =>
ldI h x2 0 l1 fun x3 =>
stI h x1 0 l1 x3 fun h4 =>
(f_X5_takesStart_l2 E v0 Q K26 n) (l1 + (1:Int32)) h4)
def f_X5_takesStart (E : Nat → Nat) (v0 : Nat) (h : hH) (Q : hH → Prop) : Prop :=
f_X5_takesStart_l2 E v0 Q (fun h => Q h) 1000000 (0:Int32) h
def f_X5_does (E : Nat → Nat) (v0 : Nat) (v1 : Int32) (v2 : Int32) (v3 : Int32) (h : hH) (Q : hH → Prop) : Prop :=
gR h (some v0) 3 9 fun x1 =>
ldI h x1 0 v2 fun x2 =>
cnd (v1 = (0:Int32)) (gR h (some v0) 3 9 fun x3 =>
stI h x3 0 v2 v3 fun h4 =>
Q h4) <| cnd (v1 = (1:Int32)) (gR h (some v0) 3 9 fun x5 =>
stI h x5 0 v2 (iRem (x2 + v3) (10000:Int32)) fun h6 =>
Q h6) <| cnd (v1 = (2:Int32)) (gR h (some v0) 3 9 fun x7 =>
gR h (some v0) 3 9 fun x8 =>
ldI h x8 0 v3 fun x9 =>
stI h x7 0 v2 x9 fun h10 =>
Q h10) <| cnd (v1 = (3:Int32)) (gR h (some v0) 3 9 fun x11 =>
gR h (some v0) 3 9 fun x12 =>
ldI h x12 0 v3 fun x13 =>
stI h x11 0 v2 (iRem (x2 + x13) (10000:Int32)) fun h14 =>
Q h14) <| cnd (v1 = (4:Int32)) (gR h (some v0) 3 9 fun x15 =>
gR h (some v0) 3 9 fun x16 =>
ldI h x16 0 v3 fun x17 =>
stI h x15 0 v2 x17 fun h18 =>
gR h18 (some v0) 3 9 fun x19 =>
stI h18 x19 0 v3 x2 fun h20 =>
Q h20) <| gR h (some v0) 3 9 fun x21 =>
gR h (some v0) 3 9 fun x22 =>
ldI h x22 0 v3 fun x23 =>
stI h x21 0 v2 (iRem (x2 * x23) (10000:Int32)) fun h24 =>
Q h24
def f_X5_doesTurn_l11 (E : Nat → Nat) (v0 : Nat) (Q : hH → Prop) (K67 : hH → Prop) : Nat → Int32 → Int32 → hH → Prop
  | 0, _, _, _ => False
  | n + 1, l2, l3, h => gR h (some v0) 3 5 fun x1 =>
ldI h x1 0 l2 fun x2 =>
cnd (x2 ≤ l3) (K67 h) (gR h (some v0) 3 5 fun x3 =>
ldI h x3 0 (((l2 + (1:Int32)) + ((4:Int32) * l3)) + (1:Int32)) fun x4 =>
gR h (some v0) 3 5 fun x5 =>
ldI h x5 0 (((l2 + (1:Int32)) + ((4:Int32) * l3)) + (2:Int32)) fun x6 =>
gR h (some v0) 3 5 fun x7 =>
ldI h x7 0 (((l2 + (1:Int32)) + ((4:Int32) * l3)) + (3:Int32)) fun x8 =>
isT h (some v0) 3 fun a10 => f_X5_does E a10 x4 x6 x8 h (fun h9 =>
(f_X5_doesTurn_l11 E v0 Q K67 n) l2 (l3 + (1:Int32)) h9))
def f_X5_doesTurn (E : Nat → Nat) (v0 : Nat) (v1 : Int32) (h : hH) (Q : hH → Prop) : Prop :=
f_X5_doesTurn_l11 E v0 Q (fun h => Q h) 1000000 ((388:Int32) + ((33:Int32) * v1)) (0:Int32) h
def f_X5_laysTruth_l6 (E : Nat → Nat) (v0 : Nat) (Q : hH → Prop) (K22 : hH → Prop) : Nat → Int32 → Int32 → hH → Prop
  | 0, _, _, _ => False
  | n + 1, l1, l2, h => cnd (l1 ≤ l2) (K22 h) (isT h (some v0) 3 fun a2 => f_X5_doesTurn E a2 l2 h (fun h1 =>
(f_X5_laysTruth_l6 E v0 Q K22 n) l1 (l2 + (1:Int32)) h1))
def f_X5_laysTruth (E : Nat → Nat) (v0 : Nat) (v1 : Int32) (h : hH) (Q : hH → Prop) : Prop :=
isT h (some v0) 3 fun a4 => f_X5_takesStart E a4 h (fun h3 =>
f_X5_laysTruth_l6 E v0 Q (fun h => Q h) 1000000 v1 (0:Int32) h3)
def f_X5_truth (E : Nat → Nat) (v0 : Nat) (v1 : Int32) (v2 : Int32) (h : hH) (Q : Int32 → hH → Prop) : Prop :=
f_X5_isCell E v2 h (fun x2 h1 =>
isT h1 (some v0) 3 fun a5 => f_X5_checks E a5 x2 h1 (fun x4 h3 =>
cnd (x4 = (0:Int32)) (Q (0:Int32) h3) (cnd (v1 < (0:Int32)) (Q (-1:Int32) h3) (gR h3 (some v0) 3 5 fun x6 =>
ldI h3 x6 0 (387:Int32) fun x7 =>
cnd (v1 ≤ x7) (isT h3 (some v0) 3 fun a9 => f_X5_laysTruth E a9 v1 h3 (fun h8 =>
gR h8 (some v0) 3 9 fun x10 =>
ldI h8 x10 0 v2 fun x11 =>
Q x11 h8)) (Q (-1:Int32) h3)))))
def f_X5_trueMembers_j66 (E : Nat → Nat) (v0 : Nat) (Q : Int32 → hH → Prop) (K31 : Int32 → Int32 → Int32 → Int32 → hH → Prop) (l1 : Int32) (l2 : Int32) (l4 : Int32) (h : hH) : Prop :=
K31 l1 l2 (0:Int32) (l4 + (1:Int32)) h
def f_X5_trueMembers_l31 (E : Nat → Nat) (v0 : Nat) (Q : Int32 → hH → Prop) (K74 : Int32 → Int32 → Int32 → hH → Prop) : Nat → Int32 → Int32 → Int32 → Int32 → hH → Prop
  | 0, _, _, _, _, _ => False
  | n + 1, l1, l2, l3, l4, h => cnd ((16:Int32) ≤ l4) (K74 l1 l2 l3 h) (cnd (l3 = (0:Int32)) (f_X5_trueMembers_j66 E v0 Q (f_X5_trueMembers_l31 E v0 Q K74 n) l1 l2 l4 h) (gR h (some v0) 3 9 fun x1 =>
ldI h x1 0 l4 fun x2 =>
isT h (some v0) 3 fun a5 => f_X5_of E a5 l2 ((7:Int32) + l4) h (fun x4 h3 =>
cnd (x2 = x4) ((f_X5_trueMembers_l31 E v0 Q K74 n) l1 l2 (1:Int32) (l4 + (1:Int32)) h3) (f_X5_trueMembers_j66 E v0 Q (f_X5_trueMembers_l31 E v0 Q K74 n) l1 l2 l4 h3))))
def f_X5_trueMembers_j86 (E : Nat → Nat) (v0 : Nat) (Q : Int32 → hH → Prop) (K9 : Int32 → Int32 → hH → Prop) (s0 : Int32) (s1 : Int32) (l2 : Int32) (h : hH) : Prop :=
K9 (s0 ||| s1) (l2 + (1:Int32)) h
def f_X5_trueMembers_l9 (E : Nat → Nat) (v0 : Nat) (Q : Int32 → hH → Prop) (K94 : Int32 → hH → Prop) : Nat → Int32 → Int32 → hH → Prop
  | 0, _, _, _ => False
  | n + 1, l1, l2, h => isT h (some v0) 3 fun a8 => f_X5_members E a8 h (fun x7 h6 =>
cnd (x7 ≤ l2) (K94 l1 h6) (isT h6 (some v0) 3 fun a11 => f_X5_turnsDone E a11 l2 h6 (fun x10 h9 =>
isT h9 (some v0) 3 fun a13 => f_X5_laysTruth E a13 x10 h9 (fun h12 =>
f_X5_trueMembers_l31 E v0 Q (fun l1 l2 l3 h => cnd (l3 = (0:Int32)) (f_X5_trueMembers_j86 E v0 Q (f_X5_trueMembers_l9 E v0 Q K94 n) l1 (0:Int32) l2 h) (f_X5_trueMembers_j86 E v0 Q (f_X5_trueMembers_l9 E v0 Q K94 n) l1 ((1:Int32) <<< (l2 &&& 31)) l2 h)) 1000000 l1 l2 (1:Int32) (0:Int32) h12))))
def f_X5_trueMembers (E : Nat → Nat) (v0 : Nat) (h : hH) (Q : Int32 → hH → Prop) : Prop :=
pV h (some v0) 3 0 (.int (0:Int32)) fun h14 =>
f_X5_trueMembers_l9 E v0 Q (fun l1 h => Q l1 h) 1000000 (0:Int32) (0:Int32) h14
def f_X5_errs_l2 (E : Nat → Nat) (v0 : Nat) (Q : hH → Prop) (K76 : hH → Prop) : Nat → Int32 → Int32 → Int32 → hH → Prop
  | 0, _, _, _, _ => False
  | n + 1, l1, l2, l3, h => gR h (some v0) 3 5 fun x1 =>
ldI h x1 0 (1741:Int32) fun x2 =>
cnd (x2 ≤ l3) (K76 h) (isT h (some v0) 3 fun a5 => f_X5_fault E a5 l3 (0:Int32) h (fun x4 h3 =>
cnd (x4 = l1) (isT h3 (some v0) 3 fun a8 => f_X5_fault E a8 l3 (1:Int32) h3 (fun x7 h6 =>
cnd (x7 = l2) (gR h6 (some v0) 3 9 fun x9 =>
isT h6 (some v0) 3 fun a12 => f_X5_fault E a12 l3 (2:Int32) h6 (fun x11 h10 =>
gR h10 (some v0) 3 9 fun x13 =>
isT h10 (some v0) 3 fun a16 => f_X5_fault E a16 l3 (2:Int32) h10 (fun x15 h14 =>
ldI h14 x13 0 x15 fun x17 =>
isT h14 (some v0) 3 fun a20 => f_X5_fault E a20 l3 (3:Int32) h14 (fun x19 h18 =>
stI h18 x9 0 x11 (iRem (x17 + x19) (10000:Int32)) fun h21 =>
(f_X5_errs_l2 E v0 Q K76 n) l1 l2 (l3 + (1:Int32)) h21)))) ((f_X5_errs_l2 E v0 Q K76 n) l1 l2 (l3 + (1:Int32)) h6))) ((f_X5_errs_l2 E v0 Q K76 n) l1 l2 (l3 + (1:Int32)) h3)))
def f_X5_errs (E : Nat → Nat) (v0 : Nat) (v1 : Int32) (v2 : Int32) (h : hH) (Q : hH → Prop) : Prop :=
f_X5_errs_l2 E v0 Q (fun h => Q h) 1000000 v1 v2 (0:Int32) h
def f_X5_foreseen_l40 (E : Nat → Nat) (v0 : Nat) (Q : Int32 → hH → Prop) (K69 : Int32 → hH → Prop) : Nat → Int32 → Int32 → Int32 → hH → Prop
  | 0, _, _, _, _ => False
  | n + 1, l1, l2, l3, h => gR h (some v0) 3 5 fun x1 =>
ldI h x1 0 (387:Int32) fun x2 =>
cnd (x2 ≤ l3) (K69 l2 h) (isT h (some v0) 3 fun a4 => f_X5_doesTurn E a4 l3 h (fun h3 =>
isT h3 (some v0) 3 fun a6 => f_X5_errs E a6 l1 l3 h3 (fun h5 =>
(f_X5_foreseen_l40 E v0 Q K69 n) l1 l2 (l3 + (1:Int32)) h5)))
def f_X5_foreseen_j21 (E : Nat → Nat) (v0 : Nat) (Q : Int32 → hH → Prop) (s0 : Option Nat) (s1 : Int32) (l1 : Int32) (l2 : Int32) (h : hH) : Prop :=
isT h s0 3 fun a9 => f_X5_checks E a9 s1 h (fun x8 h7 =>
cnd (x8 = (0:Int32)) (Q (0:Int32) h7) (isT h7 (some v0) 3 fun a11 => f_X5_takesCells E a11 l1 h7 (fun h10 =>
isT h10 (some v0) 3 fun a14 => f_X5_turnsDone E a14 l1 h10 (fun x13 h12 =>
f_X5_foreseen_l40 E v0 Q (fun l2 h => gR h (some v0) 3 9 fun x15 =>
ldI h x15 0 l2 fun x16 =>
Q x16 h) 1000000 l1 l2 x13 h12))))
def f_X5_foreseen_j20 (E : Nat → Nat) (v0 : Nat) (Q : Int32 → hH → Prop) (s0 : Option Nat) (l1 : Int32) (l2 : Int32) (h : hH) : Prop :=
f_X5_foreseen_j21 E v0 Q s0 (0:Int32) l1 l2 h
def f_X5_foreseen (E : Nat → Nat) (v0 : Nat) (v1 : Int32) (v2 : Int32) (h : hH) (Q : Int32 → hH → Prop) : Prop :=
isT h (some v0) 3 fun a19 => f_X5_isMember E a19 v1 h (fun x18 h17 =>
cnd (x18 = (0:Int32)) (f_X5_foreseen_j20 E v0 Q (some v0) v1 v2 h17) (f_X5_isCell E v2 h17 (fun x21 h20 =>
cnd (x21 = (0:Int32)) (f_X5_foreseen_j20 E v0 Q (some v0) v1 v2 h20) (f_X5_foreseen_j21 E v0 Q (some v0) (1:Int32) v1 v2 h20))))
def f_X5_changes_l12 (E : Nat → Nat) (v0 : Nat) (Q : Int32 → hH → Prop) (K72 : hH → Prop) (K80 : hH → Prop) : Nat → Int32 → Int32 → Int32 → hH → Prop
  | 0, _, _, _, _ => False
  | n + 1, l2, l3, l4, h => gR h (some v0) 3 5 fun x1 =>
ldI h x1 0 l3 fun x2 =>
cnd (x2 ≤ l4) (K80 h) (gR h (some v0) 3 5 fun x3 =>
ldI h x3 0 (((l3 + (1:Int32)) + ((4:Int32) * l4)) + (2:Int32)) fun x4 =>
cnd (x4 = l2) (K72 h) (gR h (some v0) 3 5 fun x5 =>
ldI h x5 0 (((l3 + (1:Int32)) + ((4:Int32) * l4)) + (1:Int32)) fun x6 =>
cnd (x6 = (4:Int32)) (gR h (some v0) 3 5 fun x7 =>
ldI h x7 0 (((l3 + (1:Int32)) + ((4:Int32) * l4)) + (3:Int32)) fun x8 =>
cnd (x8 = l2) (K72 h) ((f_X5_changes_l12 E v0 Q K72 K80 n) l2 l3 (l4 + (1:Int32)) h)) ((f_X5_changes_l12 E v0 Q K72 K80 n) l2 l3 (l4 + (1:Int32)) h)))
def f_X5_changes (E : Nat → Nat) (v0 : Nat) (v1 : Int32) (v2 : Int32) (h : hH) (Q : Int32 → hH → Prop) : Prop :=
f_X5_changes_l12 E v0 Q (fun h => Q (1:Int32) h) (fun h => Q (0:Int32) h) 1000000 v2 ((388:Int32) + ((33:Int32) * v1)) (0:Int32) h
def f_X5_lastWrite_l37 (E : Nat → Nat) (v0 : Nat) (Q : Int32 → hH → Prop) (K56 : Int32 → hH → Prop) : Nat → Int32 → Int32 → hH → Prop
  | 0, _, _, _ => False
  | n + 1, l2, l3, h => cnd (l3 < (0:Int32)) (K56 l3 h) (isT h (some v0) 3 fun a3 => f_X5_changes E a3 l3 l2 h (fun x2 h1 =>
cnd (x2 = (0:Int32)) ((f_X5_lastWrite_l37 E v0 Q K56 n) l2 (l3 + (-1:Int32)) h1) (K56 l3 h1)))
def f_X5_lastWrite_j21 (E : Nat → Nat) (v0 : Nat) (Q : Int32 → hH → Prop) (s0 : Option Nat) (s1 : Int32) (l1 : Int32) (l2 : Int32) (h : hH) : Prop :=
isT h s0 3 fun a6 => f_X5_checks E a6 s1 h (fun x5 h4 =>
cnd (x5 = (0:Int32)) (Q (0:Int32) h4) (isT h4 (some v0) 3 fun a9 => f_X5_turnsDone E a9 l1 h4 (fun x8 h7 =>
f_X5_lastWrite_l37 E v0 Q (fun l3 h => Q l3 h) 1000000 l2 (x8 - (1:Int32)) h7)))
def f_X5_lastWrite_j20 (E : Nat → Nat) (v0 : Nat) (Q : Int32 → hH → Prop) (s0 : Option Nat) (l1 : Int32) (l2 : Int32) (h : hH) : Prop :=
f_X5_lastWrite_j21 E v0 Q s0 (0:Int32) l1 l2 h
def f_X5_lastWrite (E : Nat → Nat) (v0 : Nat) (v1 : Int32) (v2 : Int32) (h : hH) (Q : Int32 → hH → Prop) : Prop :=
isT h (some v0) 3 fun a12 => f_X5_isMember E a12 v1 h (fun x11 h10 =>
cnd (x11 = (0:Int32)) (f_X5_lastWrite_j20 E v0 Q (some v0) v1 v2 h10) (f_X5_isCell E v2 h10 (fun x14 h13 =>
cnd (x14 = (0:Int32)) (f_X5_lastWrite_j20 E v0 Q (some v0) v1 v2 h13) (f_X5_lastWrite_j21 E v0 Q (some v0) (1:Int32) v1 v2 h13))))
def f_X5_undo_l26 (E : Nat → Nat) (v0 : Nat) (Q : Int32 → hH → Prop) (K60 : hH → Prop) : Nat → Int32 → hH → Prop
  | 0, _, _ => False
  | n + 1, l1, h => cnd ((1782:Int32) ≤ l1) (K60 h) (gR h (some v0) 3 5 fun x1 =>
gR h (some v0) 3 7 fun x2 =>
gI h (some v0) 3 8 fun x3 =>
ldI h x2 0 (((1782:Int32) * x3) + l1) fun x4 =>
stI h x1 0 l1 x4 fun h5 =>
(f_X5_undo_l26 E v0 Q K60 n) (l1 + (1:Int32)) h5)
def f_X5_undo (E : Nat → Nat) (v0 : Nat) (h : hH) (Q : Int32 → hH → Prop) : Prop :=
pV h (some v0) 3 0 (.int (0:Int32)) fun h6 =>
gI h6 (some v0) 3 8 fun x7 =>
cnd (x7 = (0:Int32)) (Q (-1:Int32) h6) (gI h6 (some v0) 3 8 fun x8 =>
pV h6 (some v0) 3 8 (.int (x8 - (1:Int32))) fun h9 =>
f_X5_undo_l26 E v0 Q (fun h => gI h (some v0) 3 8 fun x10 =>
Q x10 h) 1000000 (0:Int32) h9)
def f_X5_isOperand_j18 (E : Nat → Nat) (Q : Int32 → hH → Prop) (s0 : Int32) (s1 : Int32) (h : hH) : Prop :=
cnd (s1 ≤ s0) (Q (0:Int32) h) (Q (1:Int32) h)
def f_X5_isOperand (E : Nat → Nat) (v0 : Int32) (v1 : Int32) (h : hH) (Q : Int32 → hH → Prop) : Prop :=
cnd (v1 < (0:Int32)) (Q (0:Int32) h) (cnd ((1:Int32) < v0) (f_X5_isOperand_j18 E Q v1 (16:Int32) h) (f_X5_isOperand_j18 E Q v1 (10000:Int32) h))
def f_X5_keeps_l54 (E : Nat → Nat) (v0 : Nat) (Q : hH → Prop) (K88 : hH → Prop) : Nat → Int32 → hH → Prop
  | 0, _, _ => False
  | n + 1, l1, h => cnd ((1782:Int32) ≤ l1) (K88 h) (gR h (some v0) 3 7 fun x1 =>
gI h (some v0) 3 8 fun x2 =>
gR h (some v0) 3 5 fun x3 =>
ldI h x3 0 l1 fun x4 =>
stI h x1 0 (((1782:Int32) * x2) + l1) x4 fun h5 =>
(f_X5_keeps_l54 E v0 Q K88 n) (l1 + (1:Int32)) h5)
def f_X5_keeps_l13 (E : Nat → Nat) (v0 : Nat) (Q : hH → Prop) (K42 : hH → Prop) : Nat → Int32 → hH → Prop
  | 0, _, _ => False
  | n + 1, l1, h => cnd ((17820:Int32) ≤ l1) (K42 h) (gR h (some v0) 3 7 fun x6 =>
gR h (some v0) 3 7 fun x7 =>
ldI h x7 0 l1 fun x8 =>
stI h x6 0 (l1 - (1782:Int32)) x8 fun h9 =>
(f_X5_keeps_l13 E v0 Q K42 n) (l1 + (1:Int32)) h9)
def f_X5_keeps (E : Nat → Nat) (v0 : Nat) (h : hH) (Q : hH → Prop) : Prop :=
gI h (some v0) 3 8 fun x10 =>
cnd (x10 = (10:Int32)) (f_X5_keeps_l13 E v0 Q (fun h => gI h (some v0) 3 8 fun x13 =>
pV h (some v0) 3 8 (.int (x13 - (1:Int32))) fun h14 =>
f_X5_keeps_l54 E v0 Q (fun h => gI h (some v0) 3 8 fun x15 =>
pV h (some v0) 3 8 (.int (x15 + (1:Int32))) fun h16 =>
Q h16) 1000000 (0:Int32) h14) 1000000 (1782:Int32) h) (f_X5_keeps_l54 E v0 Q (fun h => gI h (some v0) 3 8 fun x11 =>
pV h (some v0) 3 8 (.int (x11 + (1:Int32))) fun h12 =>
Q h12) 1000000 (0:Int32) h)
def f_X5_give (E : Nat → Nat) (v0 : Nat) (v1 : Int32) (v2 : Int32) (v3 : Int32) (v4 : Int32) (h : hH) (Q : Int32 → hH → Prop) : Prop :=
pV h (some v0) 3 0 (.int (0:Int32)) fun h1 =>
isT h1 (some v0) 3 fun a4 => f_X5_isMember E a4 v1 h1 (fun x3 h2 =>
cnd (x3 = (0:Int32)) (Q (-1:Int32) h2) (cnd (v2 < (0:Int32)) (Q (-2:Int32) h2) (cnd ((5:Int32) < v2) (Q (-2:Int32) h2) (f_X5_isCell E v3 h2 (fun x6 h5 =>
cnd (x6 = (0:Int32)) (Q (-2:Int32) h5) (f_X5_isOperand E v2 v4 h5 (fun x8 h7 =>
cnd (x8 = (0:Int32)) (Q (-2:Int32) h7) (isT h7 (some v0) 3 fun a11 => f_X5_isActive E a11 v1 h7 (fun x10 h9 =>
cnd (x10 = (0:Int32)) (Q (-4:Int32) h9) (gR h9 (some v0) 3 5 fun x12 =>
ldI h9 x12 0 (1708:Int32) fun x13 =>
cnd (x13 = (8:Int32)) (Q (-3:Int32) h9) (isT h9 (some v0) 3 fun a15 => f_X5_keeps E a15 h9 (fun h14 =>
isT h14 (some v0) 3 fun a17 => f_X5_gives E a17 v1 v2 v3 v4 h14 (fun h16 =>
gR h16 (some v0) 3 5 fun x18 =>
ldI h16 x18 0 (1708:Int32) fun x19 =>
Q x19 h16)))))))))))))
def f_X5_seal (E : Nat → Nat) (v0 : Nat) (h : hH) (Q : Int32 → hH → Prop) : Prop :=
pV h (some v0) 3 0 (.int (0:Int32)) fun h1 =>
gR h1 (some v0) 3 5 fun x2 =>
ldI h1 x2 0 (387:Int32) fun x3 =>
cnd (x3 = (40:Int32)) (Q (-3:Int32) h1) (isT h1 (some v0) 3 fun a5 => f_X5_keeps E a5 h1 (fun h4 =>
isT h4 (some v0) 3 fun a7 => f_X5_seals E a7 h4 (fun h6 =>
gR h6 (some v0) 3 5 fun x8 =>
ldI h6 x8 0 (387:Int32) fun x9 =>
Q x9 h6)))
def f_X5_forgets_l104 (E : Nat → Nat) (v0 : Nat) (Q : hH → Prop) (K137 : Int32 → hH → Prop) : Nat → Int32 → Int32 → hH → Prop
  | 0, _, _, _ => False
  | n + 1, l3, l4, h => gR h (some v0) 3 5 fun x1 =>
ldI h x1 0 (1741:Int32) fun x2 =>
cnd (((1742:Int32) + ((4:Int32) * x2)) ≤ l4) (K137 l3 h) (gR h (some v0) 3 5 fun x3 =>
stI h x3 0 l4 (0:Int32) fun h4 =>
(f_X5_forgets_l104 E v0 Q K137 n) l3 (l4 + (1:Int32)) h4)
def f_X5_forgets_l51 (E : Nat → Nat) (v0 : Nat) (Q : hH → Prop) (K86 : Int32 → Int32 → Int32 → Int32 → hH → Prop) : Nat → Int32 → Int32 → Int32 → Int32 → Int32 → hH → Prop
  | 0, _, _, _, _, _, _ => False
  | n + 1, l1, l2, l3, l4, l5, h => cnd ((4:Int32) ≤ l5) (K86 l1 l2 l3 l4 h) (gR h (some v0) 3 5 fun x5 =>
isT h (some v0) 3 fun a8 => f_X5_fault E a8 l4 l5 h (fun x7 h6 =>
stI h6 x5 0 (((1742:Int32) + ((4:Int32) * l3)) + l5) x7 fun h9 =>
(f_X5_forgets_l51 E v0 Q K86 n) l1 l2 l3 l4 (l5 + (1:Int32)) h9))
def f_X5_forgets_l5 (E : Nat → Nat) (v0 : Nat) (Q : hH → Prop) (K95 : Int32 → hH → Prop) : Nat → Int32 → Int32 → Int32 → Int32 → hH → Prop
  | 0, _, _, _, _, _ => False
  | n + 1, l1, l2, l3, l4, h => gR h (some v0) 3 5 fun x10 =>
ldI h x10 0 (1741:Int32) fun x11 =>
cnd (x11 ≤ l4) (K95 l3 h) (isT h (some v0) 3 fun a14 => f_X5_fault E a14 l4 (0:Int32) h (fun x13 h12 =>
cnd (x13 = l1) (cnd (l2 = (-1:Int32)) ((f_X5_forgets_l5 E v0 Q K95 n) l1 l2 l3 (l4 + (1:Int32)) h12) (isT h12 (some v0) 3 fun a17 => f_X5_fault E a17 l4 (1:Int32) h12 (fun x16 h15 =>
cnd (x16 = l2) ((f_X5_forgets_l5 E v0 Q K95 n) l1 l2 l3 (l4 + (1:Int32)) h15) (f_X5_forgets_l51 E v0 Q (fun l1 l2 l3 l4 h => (f_X5_forgets_l5 E v0 Q K95 n) l1 l2 (l3 + (1:Int32)) (l4 + (1:Int32)) h) 1000000 l1 l2 l3 l4 (0:Int32) h15)))) (f_X5_forgets_l51 E v0 Q (fun l1 l2 l3 l4 h => (f_X5_forgets_l5 E v0 Q K95 n) l1 l2 (l3 + (1:Int32)) (l4 + (1:Int32)) h) 1000000 l1 l2 l3 l4 (0:Int32) h12)))
def f_X5_forgets (E : Nat → Nat) (v0 : Nat) (v1 : Int32) (v2 : Int32) (h : hH) (Q : hH → Prop) : Prop :=
f_X5_forgets_l5 E v0 Q (fun l3 h => f_X5_forgets_l104 E v0 Q (fun l3 h => gR h (some v0) 3 5 fun x18 =>
stI h x18 0 (1741:Int32) l3 fun h19 =>
Q h19) 1000000 l3 ((1742:Int32) + ((4:Int32) * l3)) h) 1000000 v1 v2 (0:Int32) (0:Int32) h
def f_X5_executes_l24 (E : Nat → Nat) (v0 : Nat) (Q : hH → Prop) (K51 : Int32 → Int32 → hH → Prop) : Nat → Int32 → Int32 → Int32 → hH → Prop
  | 0, _, _, _, _ => False
  | n + 1, l1, l2, l3, h => cnd ((16:Int32) ≤ l3) (K51 l1 l2 h) (gR h (some v0) 3 9 fun x1 =>
ldI h x1 0 l3 fun x2 =>
isT h (some v0) 3 fun a4 => f_X5_sets E a4 l1 ((7:Int32) + l3) x2 h (fun h3 =>
(f_X5_executes_l24 E v0 Q K51 n) l1 l2 (l3 + (1:Int32)) h3))
def f_X5_executes (E : Nat → Nat) (v0 : Nat) (v1 : Int32) (h : hH) (Q : hH → Prop) : Prop :=
isT h (some v0) 3 fun a7 => f_X5_turnsDone E a7 v1 h (fun x6 h5 =>
isT h5 (some v0) 3 fun a9 => f_X5_takesCells E a9 v1 h5 (fun h8 =>
isT h8 (some v0) 3 fun a11 => f_X5_doesTurn E a11 x6 h8 (fun h10 =>
isT h10 (some v0) 3 fun a13 => f_X5_errs E a13 v1 x6 h10 (fun h12 =>
f_X5_executes_l24 E v0 Q (fun l1 l2 h => isT h (some v0) 3 fun a15 => f_X5_forgets E a15 l1 l2 h (fun h14 =>
isT h14 (some v0) 3 fun a17 => f_X5_sets E a17 l1 (1:Int32) (l2 + (1:Int32)) h14 (fun h16 =>
isT h16 (some v0) 3 fun a19 => f_X5_writesRecord E a19 l1 h16 (fun h18 =>
Q h18)))) 1000000 v1 x6 (0:Int32) h12))))
def f_X5_runs_l15 (E : Nat → Nat) (v0 : Nat) (Q : Int32 → hH → Prop) (K33 : Int32 → hH → Prop) : Nat → Int32 → Int32 → Int32 → hH → Prop
  | 0, _, _, _, _ => False
  | n + 1, l1, l4, l5, h => cnd (l4 ≤ l5) (K33 l4 h) (isT h (some v0) 3 fun a2 => f_X5_executes E a2 l1 h (fun h1 =>
(f_X5_runs_l15 E v0 Q K33 n) l1 l4 (l5 + (1:Int32)) h1))
def f_X5_runs (E : Nat → Nat) (v0 : Nat) (v1 : Int32) (v2 : Int32) (v3 : Int32) (h : hH) (Q : Int32 → hH → Prop) : Prop :=
isT h (some v0) 3 fun a5 => f_X5_may E a5 v1 v3 h (fun x4 h3 =>
f_X5_runs_l15 E v0 Q (fun l4 h => Q l4 h) 1000000 v1 (iMin v2 x4) (0:Int32) h3)
def f_X5_run (E : Nat → Nat) (v0 : Nat) (v1 : Int32) (v2 : Int32) (h : hH) (Q : Int32 → hH → Prop) : Prop :=
pV h (some v0) 3 0 (.int (0:Int32)) fun h1 =>
isT h1 (some v0) 3 fun a4 => f_X5_isMember E a4 v1 h1 (fun x3 h2 =>
cnd (x3 = (0:Int32)) (Q (-1:Int32) h2) (cnd (v2 < (1:Int32)) (Q (-2:Int32) h2) (cnd (v2 ≤ (40:Int32)) (isT h2 (some v0) 3 fun a7 => f_X5_isActive E a7 v1 h2 (fun x6 h5 =>
cnd (x6 = (0:Int32)) (Q (-4:Int32) h5) (isT h5 (some v0) 3 fun a9 => f_X5_keeps E a9 h5 (fun h8 =>
isT h8 (some v0) 3 fun a12 => f_X5_extreme E a12 (0:Int32) h8 (fun x11 h10 =>
isT h10 (some v0) 3 fun a15 => f_X5_runs E a15 v1 v2 x11 h10 (fun x14 h13 =>
Q x14 h13)))))) (Q (-2:Int32) h2))))
def f_X5_tick_j52 (E : Nat → Nat) (v0 : Nat) (Q : Int32 → hH → Prop) (K19 : Int32 → Int32 → Int32 → hH → Prop) (s0 : Int32) (s1 : Int32) (l1 : Int32) (l3 : Int32) (h : hH) : Prop :=
K19 l1 (s0 + s1) (l3 + (1:Int32)) h
def f_X5_tick_l19 (E : Nat → Nat) (v0 : Nat) (Q : Int32 → hH → Prop) (K60 : Int32 → hH → Prop) : Nat → Int32 → Int32 → Int32 → hH → Prop
  | 0, _, _, _, _ => False
  | n + 1, l1, l2, l3, h => isT h (some v0) 3 fun a3 => f_X5_members E a3 h (fun x2 h1 =>
cnd (x2 ≤ l3) (K60 l2 h1) (isT h1 (some v0) 3 fun a6 => f_X5_isActive E a6 l3 h1 (fun x5 h4 =>
cnd (x5 = (0:Int32)) (f_X5_tick_j52 E v0 Q (f_X5_tick_l19 E v0 Q K60 n) l2 (0:Int32) l1 l3 h4) (isT h4 (some v0) 3 fun a9 => f_X5_of E a9 l3 (0:Int32) h4 (fun x8 h7 =>
isT h7 (some v0) 3 fun a12 => f_X5_runs E a12 l3 x8 l1 h7 (fun x11 h10 =>
f_X5_tick_j52 E v0 Q (f_X5_tick_l19 E v0 Q K60 n) l2 x11 l1 l3 h10))))))
def f_X5_tick (E : Nat → Nat) (v0 : Nat) (h : hH) (Q : Int32 → hH → Prop) : Prop :=
pV h (some v0) 3 0 (.int (0:Int32)) fun h13 =>
isT h13 (some v0) 3 fun a15 => f_X5_keeps E a15 h13 (fun h14 =>
isT h14 (some v0) 3 fun a18 => f_X5_extreme E a18 (0:Int32) h14 (fun x17 h16 =>
f_X5_tick_l19 E v0 Q (fun l2 h => Q l2 h) 1000000 x17 (0:Int32) (0:Int32) h16))
def f_X5_fault_2 (E : Nat → Nat) (v0 : Nat) (v1 : Int32) (v2 : Int32) (v3 : Int32) (v4 : Int32) (h : hH) (Q : Int32 → hH → Prop) : Prop :=
pV h (some v0) 3 0 (.int (0:Int32)) fun h1 =>
isT h1 (some v0) 3 fun a4 => f_X5_isMember E a4 v1 h1 (fun x3 h2 =>
cnd (x3 = (0:Int32)) (Q (-1:Int32) h2) (cnd (v2 < (0:Int32)) (Q (-2:Int32) h2) (cnd ((40:Int32) ≤ v2) (Q (-2:Int32) h2) (f_X5_isCell E v3 h2 (fun x6 h5 =>
cnd (x6 = (0:Int32)) (Q (-2:Int32) h5) (cnd (v4 < (1:Int32)) (Q (-2:Int32) h5) (cnd (v4 < (10000:Int32)) (isT h5 (some v0) 3 fun a9 => f_X5_isActive E a9 v1 h5 (fun x8 h7 =>
cnd (x8 = (0:Int32)) (Q (-4:Int32) h7) (isT h7 (some v0) 3 fun a12 => f_X5_turnsDone E a12 v1 h7 (fun x11 h10 =>
cnd (x11 ≤ v2) (gR h10 (some v0) 3 5 fun x13 =>
ldI h10 x13 0 (1741:Int32) fun x14 =>
cnd (x14 = (10:Int32)) (Q (-3:Int32) h10) (isT h10 (some v0) 3 fun a16 => f_X5_keeps E a16 h10 (fun h15 =>
isT h15 (some v0) 3 fun a18 => f_X5_faults E a18 v1 v2 v3 v4 h15 (fun h17 =>
gR h17 (some v0) 3 5 fun x19 =>
ldI h17 x19 0 (1741:Int32) fun x20 =>
Q x20 h17)))) (Q (-4:Int32) h10))))) (Q (-2:Int32) h5))))))))
def f_X5_bits_l4 (E : Nat → Nat) (Q : Int32 → hH → Prop) (K20 : Int32 → hH → Prop) : Nat → Int32 → Int32 → hH → Prop
  | 0, _, _, _ => False
  | n + 1, l1, l2, h => cnd (l2 = (0:Int32)) (K20 l1 h) ((f_X5_bits_l4 E Q K20 n) (l1 + (1:Int32)) (l2 &&& (l2 - (1:Int32))) h)
def f_X5_bits (E : Nat → Nat) (v0 : Int32) (h : hH) (Q : Int32 → hH → Prop) : Prop :=
f_X5_bits_l4 E Q (fun l1 h => Q l1 h) 1000000 (0:Int32) v0 h
def f_X5_heals_l28 (E : Nat → Nat) (v0 : Nat) (Q : Int32 → hH → Prop) (K74 : Int32 → Int32 → Int32 → hH → Prop) : Nat → Int32 → Int32 → Int32 → Int32 → hH → Prop
  | 0, _, _, _, _, _ => False
  | n + 1, l1, l2, l3, l4, h => cnd ((16:Int32) ≤ l4) (K74 l1 l2 l3 h) (gI h (some v0) 3 12 fun x1 =>
cnd (((x1 >>> (l4 &&& 31)) &&& (1:Int32)) = (1:Int32)) (isT h (some v0) 3 fun a4 => f_X5_of E a4 l2 ((7:Int32) + l4) h (fun x3 h2 =>
isT h2 (some v0) 3 fun a6 => f_X5_sets E a6 l1 ((7:Int32) + l4) x3 h2 (fun h5 =>
(f_X5_heals_l28 E v0 Q K74 n) l1 l2 l3 (l4 + (1:Int32)) h5))) ((f_X5_heals_l28 E v0 Q K74 n) l1 l2 l3 (l4 + (1:Int32)) h))
def f_X5_heals (E : Nat → Nat) (v0 : Nat) (v1 : Int32) (h : hH) (Q : Int32 → hH → Prop) : Prop :=
isT h (some v0) 3 fun a9 => f_X5_turnsDone E a9 v1 h (fun x8 h7 =>
isT h7 (some v0) 3 fun a12 => f_X5_giver E a12 x8 v1 h7 (fun x11 h10 =>
isT h10 (some v0) 3 fun a14 => f_X5_compares E a14 v1 x11 h10 (fun h13 =>
gI h13 (some v0) 3 12 fun x15 =>
f_X5_bits E x15 h13 (fun x17 h16 =>
f_X5_heals_l28 E v0 Q (fun l1 l2 l3 h => isT h (some v0) 3 fun a20 => f_X5_of E a20 l2 (3:Int32) h (fun x19 h18 =>
isT h18 (some v0) 3 fun a22 => f_X5_sets E a22 l2 (3:Int32) (x19 + l3) h18 (fun h21 =>
isT h21 (some v0) 3 fun a25 => f_X5_of E a25 l1 (4:Int32) h21 (fun x24 h23 =>
isT h23 (some v0) 3 fun a27 => f_X5_sets E a27 l1 (4:Int32) (x24 + l3) h23 (fun h26 =>
isT h26 (some v0) 3 fun a30 => f_X5_of E a30 l1 (5:Int32) h26 (fun x29 h28 =>
isT h28 (some v0) 3 fun a32 => f_X5_sets E a32 l1 (5:Int32) (x29 + (1:Int32)) h28 (fun h31 =>
isT h31 (some v0) 3 fun a35 => f_X5_turnsDone E a35 l1 h31 (fun x34 h33 =>
isT h33 (some v0) 3 fun a38 => f_X5_turnsDone E a38 l1 h33 (fun x37 h36 =>
isT h36 (some v0) 3 fun a41 => f_X5_record E a41 l2 x37 h36 (fun x40 h39 =>
isT h39 (some v0) 3 fun a43 => f_X5_sets E a43 l1 ((23:Int32) + x34) x40 h39 (fun h42 =>
Q l3 h42))))))))))) 1000000 v1 x11 x17 (0:Int32) h16))))
def f_X5_heal (E : Nat → Nat) (v0 : Nat) (v1 : Int32) (h : hH) (Q : Int32 → hH → Prop) : Prop :=
pV h (some v0) 3 0 (.int (0:Int32)) fun h1 =>
isT h1 (some v0) 3 fun a4 => f_X5_isMember E a4 v1 h1 (fun x3 h2 =>
cnd (x3 = (0:Int32)) (Q (-1:Int32) h2) (isT h2 (some v0) 3 fun a7 => f_X5_stops E a7 v1 h2 (fun x6 h5 =>
cnd (x6 = (0:Int32)) (isT h5 (some v0) 3 fun a9 => f_X5_keeps E a9 h5 (fun h8 =>
isT h8 (some v0) 3 fun a12 => f_X5_heals E a12 v1 h8 (fun x11 h10 =>
Q x11 h10))) (Q (-4:Int32) h5))))
def f_X5_healAll_j36 (E : Nat → Nat) (v0 : Nat) (Q : Int32 → hH → Prop) (K9 : Int32 → Int32 → hH → Prop) (l1 : Int32) (l2 : Int32) (h : hH) : Prop :=
isT h (some v0) 3 fun a3 => f_X5_heals E a3 l2 h (fun x2 h1 =>
K9 (l1 + (1:Int32)) (l2 + (1:Int32)) h1)
def f_X5_healAll_l9 (E : Nat → Nat) (v0 : Nat) (Q : Int32 → hH → Prop) (K51 : Int32 → hH → Prop) : Nat → Int32 → Int32 → hH → Prop
  | 0, _, _, _ => False
  | n + 1, l1, l2, h => isT h (some v0) 3 fun a6 => f_X5_members E a6 h (fun x5 h4 =>
cnd (x5 ≤ l2) (K51 l1 h4) (isT h4 (some v0) 3 fun a9 => f_X5_stops E a9 l2 h4 (fun x8 h7 =>
cnd (x8 = (0:Int32)) (cnd (l1 = (0:Int32)) (isT h7 (some v0) 3 fun a11 => f_X5_keeps E a11 h7 (fun h10 =>
f_X5_healAll_j36 E v0 Q (f_X5_healAll_l9 E v0 Q K51 n) l1 l2 h10)) (f_X5_healAll_j36 E v0 Q (f_X5_healAll_l9 E v0 Q K51 n) l1 l2 h7)) ((f_X5_healAll_l9 E v0 Q K51 n) l1 (l2 + (1:Int32)) h7))))
def f_X5_healAll (E : Nat → Nat) (v0 : Nat) (h : hH) (Q : Int32 → hH → Prop) : Prop :=
pV h (some v0) 3 0 (.int (0:Int32)) fun h12 =>
f_X5_healAll_l9 E v0 Q (fun l1 h => cnd (l1 = (0:Int32)) (Q (-1:Int32) h) (Q l1 h)) 1000000 (0:Int32) (0:Int32) h12
def f_X5_join_l79 (E : Nat → Nat) (v0 : Nat) (Q : Int32 → hH → Prop) (K113 : Int32 → Int32 → hH → Prop) : Nat → Int32 → Int32 → Int32 → hH → Prop
  | 0, _, _, _, _ => False
  | n + 1, l3, l4, l5, h => cnd ((16:Int32) ≤ l5) (K113 l3 l4 h) (isT h (some v0) 3 fun a3 => f_X5_of E a3 l3 ((7:Int32) + l5) h (fun x2 h1 =>
isT h1 (some v0) 3 fun a5 => f_X5_sets E a5 l4 ((7:Int32) + l5) x2 h1 (fun h4 =>
(f_X5_join_l79 E v0 Q K113 n) l3 l4 (l5 + (1:Int32)) h4)))
def f_X5_join_j51 (E : Nat → Nat) (v0 : Nat) (Q : Int32 → hH → Prop) (s0 : Int32) (l1 : Int32) (l2 : Int32) (h : hH) : Prop :=
cnd (s0 = (-1:Int32)) (Q (-4:Int32) h) (isT h (some v0) 3 fun a7 => f_X5_keeps E a7 h (fun h6 =>
isT h6 (some v0) 3 fun a10 => f_X5_members E a10 h6 (fun x9 h8 =>
isT h8 (some v0) 3 fun a12 => f_X5_comes E a12 l1 l2 h8 (fun h11 =>
f_X5_join_l79 E v0 Q (fun l3 l4 h => isT h (some v0) 3 fun a15 => f_X5_of E a15 l3 (3:Int32) h (fun x14 h13 =>
isT h13 (some v0) 3 fun a17 => f_X5_sets E a17 l3 (3:Int32) (x14 + (16:Int32)) h13 (fun h16 =>
isT h16 (some v0) 3 fun a19 => f_X5_sets E a19 l4 (4:Int32) (16:Int32) h16 (fun h18 =>
isT h18 (some v0) 3 fun a21 => f_X5_writesRecord E a21 l4 h18 (fun h20 =>
Q l4 h20))))) 1000000 s0 x9 (0:Int32) h11))))
def f_X5_join (E : Nat → Nat) (v0 : Nat) (v1 : Int32) (h : hH) (Q : Int32 → hH → Prop) : Prop :=
pV h (some v0) 3 0 (.int (0:Int32)) fun h22 =>
cnd (v1 < (1:Int32)) (Q (-2:Int32) h22) (cnd (v1 ≤ (4:Int32)) (isT h22 (some v0) 3 fun a25 => f_X5_members E a25 h22 (fun x24 h23 =>
cnd (x24 = (6:Int32)) (Q (-3:Int32) h23) (isT h23 (some v0) 3 fun a28 => f_X5_extreme E a28 (0:Int32) h23 (fun x27 h26 =>
cnd (x27 = (-1:Int32)) (f_X5_join_j51 E v0 Q (-1:Int32) v1 x27 h26) (isT h26 (some v0) 3 fun a31 => f_X5_giver E a31 x27 (-1:Int32) h26 (fun x30 h29 =>
f_X5_join_j51 E v0 Q x30 v1 x27 h29)))))) (Q (-2:Int32) h22))
def f_X5_leave_j69 (E : Nat → Nat) (v0 : Nat) (Q : Int32 → hH → Prop) (K47 : Int32 → Int32 → hH → Prop) (s0 : Int32) (s1 : Int32) (l3 : Int32) (h : hH) : Prop :=
K47 (s0 + s1) (l3 + (1:Int32)) h
def f_X5_leave_l47 (E : Nat → Nat) (v0 : Nat) (Q : Int32 → hH → Prop) (K77 : Int32 → hH → Prop) : Nat → Int32 → Int32 → hH → Prop
  | 0, _, _, _ => False
  | n + 1, l2, l3, h => isT h (some v0) 3 fun a3 => f_X5_members E a3 h (fun x2 h1 =>
cnd (x2 ≤ l3) (K77 l2 h1) (isT h1 (some v0) 3 fun a6 => f_X5_isActive E a6 l3 h1 (fun x5 h4 =>
cnd (x5 = (0:Int32)) (f_X5_leave_j69 E v0 Q (f_X5_leave_l47 E v0 Q K77 n) l2 (0:Int32) l3 h4) (f_X5_leave_j69 E v0 Q (f_X5_leave_l47 E v0 Q K77 n) l2 (1:Int32) l3 h4))))
def f_X5_leave (E : Nat → Nat) (v0 : Nat) (v1 : Int32) (h : hH) (Q : Int32 → hH → Prop) : Prop :=
pV h (some v0) 3 0 (.int (0:Int32)) fun h7 =>
isT h7 (some v0) 3 fun a10 => f_X5_isMember E a10 v1 h7 (fun x9 h8 =>
cnd (x9 = (0:Int32)) (Q (-1:Int32) h8) (isT h8 (some v0) 3 fun a13 => f_X5_isActive E a13 v1 h8 (fun x12 h11 =>
cnd (x12 = (0:Int32)) (Q (-4:Int32) h11) (isT h11 (some v0) 3 fun a15 => f_X5_keeps E a15 h11 (fun h14 =>
isT h14 (some v0) 3 fun a17 => f_X5_sets E a17 v1 (2:Int32) (0:Int32) h14 (fun h16 =>
isT h16 (some v0) 3 fun a19 => f_X5_forgets E a19 v1 (-1:Int32) h16 (fun h18 =>
f_X5_leave_l47 E v0 Q (fun l2 h => Q l2 h) 1000000 (0:Int32) (0:Int32) h18)))))))
def f_X5_setSetting (E : Nat → Nat) (v0 : Nat) (v1 : Int32) (v2 : Int32) (h : hH) (Q : Int32 → hH → Prop) : Prop :=
pV h (some v0) 3 0 (.int (0:Int32)) fun h1 =>
f_X5_isSetting E v1 h1 (fun x3 h2 =>
cnd (x3 = (0:Int32)) (Q (-2:Int32) h2) (f_X5_low E v1 h2 (fun x5 h4 =>
cnd (v2 < x5) (Q (-2:Int32) h4) (f_X5_top E v1 h4 (fun x7 h6 =>
cnd (v2 ≤ x7) (isT h6 (some v0) 3 fun a9 => f_X5_keeps E a9 h6 (fun h8 =>
gR h8 (some v0) 3 5 fun x10 =>
ldI h8 x10 0 ((0:Int32) + v1) fun x11 =>
gR h8 (some v0) 3 5 fun x12 =>
stI h8 x12 0 ((0:Int32) + v1) v2 fun h13 =>
Q x11 h13)) (Q (-2:Int32) h6))))))
def f_X5_writes (E : Nat → Nat) (v0 : Nat) (v1 : Int32) (h : hH) (Q : hH → Prop) : Prop :=
gR h (some v0) 3 25 fun x1 =>
gI h (some v0) 3 26 fun x2 =>
stI h x1 0 x2 v1 fun h3 =>
gI h3 (some v0) 3 26 fun x4 =>
pV h3 (some v0) 3 26 (.int (x4 + (1:Int32))) fun h5 =>
Q h5
def f_X5_writesNumber_l18 (E : Nat → Nat) (v0 : Nat) (Q : hH → Prop) (K43 : hH → Prop) : Nat → Int32 → Int32 → hH → Prop
  | 0, _, _, _ => False
  | n + 1, l1, l2, h => cnd (l2 ≤ (0:Int32)) (K43 h) ((¬ l2 = 0) ∧ (isT h (some v0) 3 fun a2 => f_X5_writes E a2 ((48:Int32) + (iRem (l1 / l2) (10:Int32))) h (fun h1 =>
(f_X5_writesNumber_l18 E v0 Q K43 n) l1 (l2 / (10:Int32)) h1)))
def f_X5_writesNumber_l2 (E : Nat → Nat) (v0 : Nat) (Q : hH → Prop) (K18 : Int32 → Int32 → hH → Prop) : Nat → Int32 → Int32 → hH → Prop
  | 0, _, _, _ => False
  | n + 1, l1, l2, h => (¬ l2 = 0) ∧ (cnd ((l1 / l2) ≤ (9:Int32)) (K18 l1 l2 h) ((f_X5_writesNumber_l2 E v0 Q K18 n) l1 (l2 * (10:Int32)) h))
def f_X5_writesNumber (E : Nat → Nat) (v0 : Nat) (v1 : Int32) (h : hH) (Q : hH → Prop) : Prop :=
f_X5_writesNumber_l2 E v0 Q (fun l1 l2 h => f_X5_writesNumber_l18 E v0 Q (fun h => Q h) 1000000 l1 l2 h) 1000000 v1 (1:Int32) h
def f_X5_write_l86 (E : Nat → Nat) (v0 : Nat) (Q : Int32 → hH → Prop) (K117 : hH → Prop) : Nat → Int32 → Int32 → hH → Prop
  | 0, _, _, _ => False
  | n + 1, l1, l2, h => cnd ((16:Int32) ≤ l2) (K117 h) (isT h (some v0) 3 fun a2 => f_X5_writes E a2 (32:Int32) h (fun h1 =>
isT h1 (some v0) 3 fun a5 => f_X5_of E a5 l1 ((7:Int32) + l2) h1 (fun x4 h3 =>
isT h3 (some v0) 3 fun a7 => f_X5_writesNumber E a7 x4 h3 (fun h6 =>
(f_X5_write_l86 E v0 Q K117 n) l1 (l2 + (1:Int32)) h6))))
def f_X5_write_l39 (E : Nat → Nat) (v0 : Nat) (Q : Int32 → hH → Prop) (K78 : Int32 → hH → Prop) : Nat → Int32 → Int32 → hH → Prop
  | 0, _, _, _ => False
  | n + 1, l1, l2, h => cnd (l2 < (0:Int32)) (K78 l1 h) (gR h (some v0) 3 3 fun x8 =>
ldI h x8 0 ((16:Int32) + l1) fun x9 =>
cnd (((x9 >>> (((5:Int32) * l2) &&& 31)) &&& (31:Int32)) ≤ (0:Int32)) ((f_X5_write_l39 E v0 Q K78 n) l1 (l2 + (-1:Int32)) h) (isT h (some v0) 3 fun a11 => f_X5_writes E a11 ((96:Int32) + ((x9 >>> (((5:Int32) * l2) &&& 31)) &&& (31:Int32))) h (fun h10 =>
(f_X5_write_l39 E v0 Q K78 n) l1 (l2 + (-1:Int32)) h10)))
def f_X5_write (E : Nat → Nat) (v0 : Nat) (v1 : Int32) (h : hH) (Q : Int32 → hH → Prop) : Prop :=
isT h (some v0) 3 fun a14 => f_X5_isMember E a14 v1 h (fun x13 h12 =>
isT h12 (some v0) 3 fun a17 => f_X5_checks E a17 x13 h12 (fun x16 h15 =>
cnd (x16 = (0:Int32)) (Q (0:Int32) h15) (pV h15 (some v0) 3 26 (.int (0:Int32)) fun h18 =>
gR h18 (some v0) 3 3 fun x19 =>
ldI h18 x19 0 ((16:Int32) + v1) fun x20 =>
cnd (x20 = (0:Int32)) (isT h18 (some v0) 3 fun a25 => f_X5_writes E a25 (42:Int32) h18 (fun h24 =>
f_X5_write_l39 E v0 Q (fun l1 h => isT h (some v0) 3 fun a27 => f_X5_writes E a27 (58:Int32) h (fun h26 =>
f_X5_write_l86 E v0 Q (fun h => gI h (some v0) 3 26 fun x28 =>
Q x28 h) 1000000 l1 (0:Int32) h26)) 1000000 v1 (5:Int32) h24)) (f_X5_write_l39 E v0 Q (fun l1 h => isT h (some v0) 3 fun a22 => f_X5_writes E a22 (58:Int32) h (fun h21 =>
f_X5_write_l86 E v0 Q (fun h => gI h (some v0) 3 26 fun x23 =>
Q x23 h) 1000000 l1 (0:Int32) h21)) 1000000 v1 (5:Int32) h18))))
def f_X5_outputAt_j17 (E : Nat → Nat) (v0 : Nat) (Q : Int32 → hH → Prop) (h : hH) : Prop :=
Q (-1:Int32) h
def f_X5_outputAt (E : Nat → Nat) (v0 : Nat) (v1 : Int32) (h : hH) (Q : Int32 → hH → Prop) : Prop :=
pV h (some v0) 3 0 (.int (0:Int32)) fun h1 =>
cnd (v1 < (0:Int32)) (f_X5_outputAt_j17 E v0 Q h1) (gI h1 (some v0) 3 26 fun x2 =>
cnd (v1 < x2) (gR h1 (some v0) 3 25 fun x3 =>
ldI h1 x3 0 v1 fun x4 =>
Q x4 h1) (f_X5_outputAt_j17 E v0 Q h1))
