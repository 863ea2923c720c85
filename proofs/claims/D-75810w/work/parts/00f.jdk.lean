set_option maxRecDepth 100000
def f_J0_init (E : Nat → Nat) (v0 : Nat) (h : hH) (Q : hH → Prop) : Prop :=
Q h
def f_J1_init (E : Nat → Nat) (v0 : Nat) (h : hH) (Q : hH → Prop) : Prop :=
f_J0_init E v0 h (fun h1 =>
pV h1 (some v0) 16 0 (.int (0:Int32)) fun h2 =>
Q h2)
def f_J3_init (E : Nat → Nat) (v0 : Nat) (h : hH) (Q : hH → Prop) : Prop :=
f_J0_init E v0 h (fun h1 =>
Q h1)
def f_J23_init (E : Nat → Nat) (v0 : Nat) (h : hH) (Q : hH → Prop) : Prop :=
Q h
def f_J35_init (E : Nat → Nat) (v0 : Nat) (h : hH) (Q : hH → Prop) : Prop :=
f_J0_init E v0 h (fun h1 =>
Q h1)
def f_J19_init (E : Nat → Nat) (v0 : Nat) (h : hH) (Q : hH → Prop) : Prop :=
Q h
def f_J15_checkIndex_j9 (E : Nat → Nat) (Q : Int32 → hH → Prop) (l0 : Int32) (l1 : Int32) (l2 : Option Nat) (h : hH) : Prop :=
False
def f_J15_checkIndex (E : Nat → Nat) (v0 : Int32) (v1 : Int32) (v2 : Option Nat) (h : hH) (Q : Int32 → hH → Prop) : Prop :=
cnd (v0 < (0:Int32)) (f_J15_checkIndex_j9 E Q v0 v1 v2 h) (cnd (v0 < v1) (Q v0 h) (f_J15_checkIndex_j9 E Q v0 v1 v2 h))
def f_J18_checkIndex (E : Nat → Nat) (v0 : Int32) (v1 : Int32) (h : hH) (Q : Int32 → hH → Prop) : Prop :=
f_J15_checkIndex E v0 v1 none h (fun x2 h1 =>
Q x2 h1)
def f_J18_requireNonNull (E : Nat → Nat) (v0 : Option Nat) (h : hH) (Q : Option Nat → hH → Prop) : Prop :=
cnd (v0 = none) (False) (Q v0 h)
def f_J11_newLength_j21 (E : Nat → Nat) (Q : Int32 → hH → Prop) (l0 : Int32) (l1 : Int32) (h : hH) : Prop :=
False
def f_J11_newLength (E : Nat → Nat) (v0 : Int32) (v1 : Int32) (v2 : Int32) (h : hH) (Q : Int32 → hH → Prop) : Prop :=
cnd ((v0 + (iMax v1 v2)) ≤ (0:Int32)) (f_J11_newLength_j21 E Q v0 v1 h) (cnd ((2147483639:Int32) < (v0 + (iMax v1 v2))) (f_J11_newLength_j21 E Q v0 v1 h) (Q (v0 + (iMax v1 v2)) h))
def f_J20_init (E : Nat → Nat) (v0 : Nat) (v1 : Int32) (h : hH) (Q : hH → Prop) : Prop :=
f_J19_init E v0 h (fun h1 =>
pV h1 (some v0) 22 0 (.int v1) fun h2 =>
Q h2)
def f_J20_intValue (E : Nat → Nat) (v0 : Nat) (h : hH) (Q : Int32 → hH → Prop) : Prop :=
gI h (some v0) 22 0 fun x1 =>
Q x1 h
def f_J20_valueOf_j23 (E : Nat → Nat) (Q : Option Nat → hH → Prop) (l0 : Int32) (h : hH) : Prop :=
nO h 22 [.int 0] fun q1 h2 =>
f_J20_init E q1 l0 h2 (fun h3 =>
Q (some q1) h3)
def f_J20_valueOf (E : Nat → Nat) (v0 : Int32) (h : hH) (Q : Option Nat → hH → Prop) : Prop :=
cnd (v0 < (-128:Int32)) (f_J20_valueOf_j23 E Q v0 h) (cnd ((127:Int32) < v0) (f_J20_valueOf_j23 E Q v0 h) (ldQo h (some (E 9)) (v0 + (128:Int32)) fun x4 =>
Q x4 h))
def f_J20_compare (E : Nat → Nat) (v0 : Int32) (v1 : Int32) (h : hH) (Q : Int32 → hH → Prop) : Prop :=
cnd (v1 ≤ v0) (cnd (v0 = v1) (Q (0:Int32) h) (Q (1:Int32) h)) (Q (-1:Int32) h)
def f_J20_compareTo_2 (E : Nat → Nat) (v0 : Nat) (v1 : Option Nat) (h : hH) (Q : Int32 → hH → Prop) : Prop :=
gI h (some v0) 22 0 fun x1 =>
gI h v1 22 0 fun x2 =>
f_J20_compare E x1 x2 h (fun x4 h3 =>
Q x4 h3)
def f_J20_compareTo (E : Nat → Nat) (v0 : Nat) (v1 : Option Nat) (h : hH) (Q : Int32 → hH → Prop) : Prop :=
ckT h v1 22 (isT h (some v0) 22 fun a3 => f_J20_compareTo_2 E a3 v1 h (fun x2 h1 =>
Q x2 h1))
def f_J20_numberOfLeadingZeros_j73 (E : Nat → Nat) (Q : Int32 → hH → Prop) (l0 : Int32) (l1 : Int32) (h : hH) : Prop :=
Q (l1 - (iUsh l0 (1:Int32))) h
def f_J20_numberOfLeadingZeros_j61 (E : Nat → Nat) (Q : Int32 → hH → Prop) (l0 : Int32) (l1 : Int32) (h : hH) : Prop :=
cnd (l0 < (4:Int32)) (f_J20_numberOfLeadingZeros_j73 E Q l0 l1 h) (f_J20_numberOfLeadingZeros_j73 E Q (iUsh l0 (2:Int32)) (l1 + (-2:Int32)) h)
def f_J20_numberOfLeadingZeros_j48 (E : Nat → Nat) (Q : Int32 → hH → Prop) (l0 : Int32) (l1 : Int32) (h : hH) : Prop :=
cnd (l0 < (16:Int32)) (f_J20_numberOfLeadingZeros_j61 E Q l0 l1 h) (f_J20_numberOfLeadingZeros_j61 E Q (iUsh l0 (4:Int32)) (l1 + (-4:Int32)) h)
def f_J20_numberOfLeadingZeros_j33 (E : Nat → Nat) (Q : Int32 → hH → Prop) (l0 : Int32) (l1 : Int32) (h : hH) : Prop :=
cnd (l0 < (256:Int32)) (f_J20_numberOfLeadingZeros_j48 E Q l0 l1 h) (f_J20_numberOfLeadingZeros_j48 E Q (iUsh l0 (8:Int32)) (l1 + (-8:Int32)) h)
def f_J20_numberOfLeadingZeros (E : Nat → Nat) (v0 : Int32) (h : hH) (Q : Int32 → hH → Prop) : Prop :=
cnd ((0:Int32) < v0) (cnd (v0 < (65536:Int32)) (f_J20_numberOfLeadingZeros_j33 E Q v0 (31:Int32) h) (f_J20_numberOfLeadingZeros_j33 E Q (iUsh v0 (16:Int32)) ((31:Int32) + (-16:Int32)) h)) (cnd (v0 = (0:Int32)) (Q (32:Int32) h) (Q (0:Int32) h))
def f_J13_copyOf (E : Nat → Nat) (v0 : Option Nat) (v1 : Int32) (h : hH) (Q : Option Nat → hH → Prop) : Prop :=
aLn h v0 1 fun x1 =>
cnd (v1 = x1) (clB h v0 300 fun q6 h7 =>
ckA h7 (some q6) 1 (Q (some q6) h7)) (nA h 1 v1 300 fun q2 h3 =>
aLn h3 v0 1 fun x4 =>
cpI h3 v0 (0:Int32) (some q2) (0:Int32) (iMin x4 v1) 1 fun h5 =>
Q (some q2) h5)
def f_J13_checkLength (E : Nat → Nat) (v0 : Int32) (v1 : Int32) (h : hH) (Q : hH → Prop) : Prop :=
cnd (v0 ≤ v1) (Q h) (False)
def f_J13_copyOfRangeByte (E : Nat → Nat) (v0 : Option Nat) (v1 : Int32) (v2 : Int32) (h : hH) (Q : Option Nat → hH → Prop) : Prop :=
f_J13_checkLength E v1 v2 h (fun h1 =>
nA h1 1 (v2 - v1) 900 fun q2 h3 =>
aLn h3 v0 1 fun x4 =>
cpI h3 v0 v1 (some q2) (0:Int32) (iMin (x4 - v1) (v2 - v1)) 1 fun h5 =>
Q (some q2) h5)
def f_J13_copyOfRange_j10 (E : Nat → Nat) (Q : Option Nat → hH → Prop) (l0 : Option Nat) (l1 : Int32) (l2 : Int32) (h : hH) : Prop :=
f_J13_copyOfRangeByte E l0 l1 l2 h (fun x2 h1 =>
Q x2 h1)
def f_J13_copyOfRange (E : Nat → Nat) (v0 : Option Nat) (v1 : Int32) (v2 : Int32) (h : hH) (Q : Option Nat → hH → Prop) : Prop :=
cnd (v1 = (0:Int32)) (aLn h v0 1 fun x3 =>
cnd (v2 = x3) (clB h v0 900 fun q4 h5 =>
ckA h5 (some q4) 1 (Q (some q4) h5)) (f_J13_copyOfRange_j10 E Q v0 v1 v2 h)) (f_J13_copyOfRange_j10 E Q v0 v1 v2 h)
def f_J13_copyOf_3_j24 (E : Nat → Nat) (Q : Option Nat → hH → Prop) (s0 : Option Nat) (l0 : Option Nat) (l1 : Int32) (h : hH) : Prop :=
aLn h l0 4 fun x1 =>
cpQ h l0 (0:Int32) s0 (0:Int32) (iMin x1 l1) fun h2 =>
Q s0 h2
def f_J13_copyOf_3 (E : Nat → Nat) (v0 : Option Nat) (v1 : Int32) (v2 : Option Nat) (h : hH) (Q : Option Nat → hH → Prop) : Prop :=
cnd (v2 = (some (E 11))) (nAq h 4 v1 64 fun q3 h4 =>
f_J13_copyOf_3_j24 E Q (some q3) v0 v1 h4) (False)
def f_J13_copyOf_2 (E : Nat → Nat) (v0 : Option Nat) (v1 : Int32) (h : hH) (Q : Option Nat → hH → Prop) : Prop :=
gC4 h v0 (f_J13_copyOf_3 E v0 v1 (some (E 11)) h (fun x2 h1 =>
Q x2 h1))
def f_J2_init (E : Nat → Nat) (v0 : Nat) (h : hH) (Q : hH → Prop) : Prop :=
f_J1_init E v0 h (fun h1 =>
pV h1 (some v0) 16 1 (va_rf (some (E 10))) fun h2 =>
Q h2)
def f_J2_size (E : Nat → Nat) (v0 : Nat) (h : hH) (Q : Int32 → hH → Prop) : Prop :=
gI h (some v0) 16 2 fun x1 =>
Q x1 h
def f_J2_elementData (E : Nat → Nat) (v0 : Nat) (v1 : Int32) (h : hH) (Q : Option Nat → hH → Prop) : Prop :=
gR h (some v0) 16 1 fun x1 =>
ldQ h x1 4 v1 fun x2 =>
Q x2 h
def f_J2_get (E : Nat → Nat) (v0 : Nat) (v1 : Int32) (h : hH) (Q : Option Nat → hH → Prop) : Prop :=
gI h (some v0) 16 2 fun x1 =>
f_J18_checkIndex E v1 x1 h (fun x3 h2 =>
isT h2 (some v0) 16 fun a6 => f_J2_elementData E a6 v1 h2 (fun x5 h4 =>
Q x5 h4))
def f_J2_grow_2_j20 (E : Nat → Nat) (v0 : Nat) (Q : Option Nat → hH → Prop) (l1 : Int32) (l2 : Int32) (h : hH) : Prop :=
f_J11_newLength E l2 (l1 - l2) (l2 >>> ((1:Int32) &&& 31)) h (fun x2 h1 =>
gR h1 (some v0) 16 1 fun x3 =>
f_J13_copyOf_2 E x3 x2 h1 (fun x5 h4 =>
pV h4 (some v0) 16 1 (va_rf x5) fun h6 =>
Q x5 h6))
def f_J2_grow_2 (E : Nat → Nat) (v0 : Nat) (v1 : Int32) (h : hH) (Q : Option Nat → hH → Prop) : Prop :=
gR h (some v0) 16 1 fun x7 =>
aLn h x7 4 fun x8 =>
cnd ((0:Int32) < x8) (f_J2_grow_2_j20 E v0 Q v1 x8 h) (gR h (some v0) 16 1 fun x9 =>
cnd (x9 = (some (E 10))) (nAq h 4 (iMax (10:Int32) v1) 10 fun q10 h11 =>
pV h11 (some v0) 16 1 (va_rf (some q10)) fun h12 =>
Q (some q10) h12) (f_J2_grow_2_j20 E v0 Q v1 x8 h))
def f_J2_grow (E : Nat → Nat) (v0 : Nat) (h : hH) (Q : Option Nat → hH → Prop) : Prop :=
gI h (some v0) 16 2 fun x1 =>
isT h (some v0) 16 fun a4 => f_J2_grow_2 E a4 (x1 + (1:Int32)) h (fun x3 h2 =>
Q x3 h2)
def f_J2_add_2_j11 (E : Nat → Nat) (v0 : Nat) (Q : hH → Prop) (l1 : Option Nat) (l2 : Option Nat) (l3 : Int32) (h : hH) : Prop :=
stQ h l2 4 l3 l1 fun h1 =>
pV h1 (some v0) 16 2 (.int (l3 + (1:Int32))) fun h2 =>
Q h2
def f_J2_add_2 (E : Nat → Nat) (v0 : Nat) (v1 : Option Nat) (v2 : Option Nat) (v3 : Int32) (h : hH) (Q : hH → Prop) : Prop :=
aLn h v2 4 fun x3 =>
cnd (v3 = x3) (isT h (some v0) 16 fun a6 => f_J2_grow E a6 h (fun x5 h4 =>
f_J2_add_2_j11 E v0 Q v1 x5 v3 h4)) (f_J2_add_2_j11 E v0 Q v1 v2 v3 h)
def f_J2_add (E : Nat → Nat) (v0 : Nat) (v1 : Option Nat) (h : hH) (Q : Int32 → hH → Prop) : Prop :=
gI h (some v0) 16 0 fun x1 =>
pV h (some v0) 16 0 (.int (x1 + (1:Int32))) fun h2 =>
gR h2 (some v0) 16 1 fun x3 =>
gI h2 (some v0) 16 2 fun x4 =>
isT h2 (some v0) 16 fun a6 => f_J2_add_2 E a6 v1 x3 x4 h2 (fun h5 =>
Q (1:Int32) h5)
def f_J2_fastRemove_j34 (E : Nat → Nat) (v0 : Nat) (Q : hH → Prop) (l1 : Option Nat) (l3 : Int32) (h : hH) : Prop :=
pV h (some v0) 16 2 (.int l3) fun h1 =>
stQ h1 l1 4 l3 none fun h2 =>
Q h2
def f_J2_fastRemove (E : Nat → Nat) (v0 : Nat) (v1 : Option Nat) (v2 : Int32) (h : hH) (Q : hH → Prop) : Prop :=
gI h (some v0) 16 0 fun x3 =>
pV h (some v0) 16 0 (.int (x3 + (1:Int32))) fun h4 =>
gI h4 (some v0) 16 2 fun x5 =>
cnd ((x5 - (1:Int32)) ≤ v2) (f_J2_fastRemove_j34 E v0 Q v1 (x5 - (1:Int32)) h4) (cpQ h4 v1 (v2 + (1:Int32)) v1 v2 ((x5 - (1:Int32)) - v2) fun h6 =>
f_J2_fastRemove_j34 E v0 Q v1 (x5 - (1:Int32)) h6)
def f_J2_remove (E : Nat → Nat) (v0 : Nat) (v1 : Int32) (h : hH) (Q : Option Nat → hH → Prop) : Prop :=
gI h (some v0) 16 2 fun x1 =>
f_J18_checkIndex E v1 x1 h (fun x3 h2 =>
gR h2 (some v0) 16 1 fun x4 =>
ldQ h2 x4 4 v1 fun x5 =>
isT h2 (some v0) 16 fun a7 => f_J2_fastRemove E a7 x4 v1 h2 (fun h6 =>
Q x5 h6))
def f_X4_init (E : Nat → Nat) (v0 : Nat) (h : hH) (Q : hH → Prop) : Prop :=
Q h
def f_X4_compare_2 (E : Nat → Nat) (v0 : Nat) (v1 : Option Nat) (v2 : Option Nat) (h : hH) (Q : Int32 → hH → Prop) : Prop :=
gI h v1 5 0 fun x1 =>
gI h v2 5 0 fun x2 =>
cnd (x1 = x2) (gI h v1 5 1 fun x3 =>
gI h v2 5 1 fun x4 =>
f_J20_compare E x3 x4 h (fun x6 h5 =>
Q x6 h5)) (gI h v1 5 0 fun x7 =>
gI h v2 5 0 fun x8 =>
f_J20_compare E x7 x8 h (fun x10 h9 =>
Q x10 h9))
def f_X4_compare (E : Nat → Nat) (v0 : Nat) (v1 : Option Nat) (v2 : Option Nat) (h : hH) (Q : Int32 → hH → Prop) : Prop :=
ckT h v1 5 (ckT h v2 5 (isT h (some v0) 14 fun a3 => f_X4_compare_2 E a3 v1 v2 h (fun x2 h1 =>
Q x2 h1)))
def f_X17_compare_2 (E : Nat → Nat) (v0 : Nat) (v1 : Option Nat) (v2 : Option Nat) (h : hH) (Q : Int32 → hH → Prop) : Prop :=
gI h v1 7 6 fun x1 =>
gI h v2 7 6 fun x2 =>
cnd (x1 = x2) (gI h v1 7 0 fun x3 =>
gI h v2 7 0 fun x4 =>
f_J20_compare E x3 x4 h (fun x6 h5 =>
Q x6 h5)) (gI h v1 7 6 fun x7 =>
gI h v2 7 6 fun x8 =>
f_J20_compare E x7 x8 h (fun x10 h9 =>
Q x10 h9))
def f_X17_compare (E : Nat → Nat) (v0 : Nat) (v1 : Option Nat) (v2 : Option Nat) (h : hH) (Q : Int32 → hH → Prop) : Prop :=
ckT h v1 7 (ckT h v2 7 (isT h (some v0) 15 fun a3 => f_X17_compare_2 E a3 v1 v2 h (fun x2 h1 =>
Q x2 h1)))
def f_X17_init (E : Nat → Nat) (v0 : Nat) (h : hH) (Q : hH → Prop) : Prop :=
Q h
def f_X8_init (E : Nat → Nat) (v0 : Nat) (v1 : Int32) (v2 : Int32) (v3 : Int32) (v4 : Int32) (v5 : Int32) (h : hH) (Q : hH → Prop) : Prop :=
pV h (some v0) 5 0 (.int v1) fun h1 =>
pV h1 (some v0) 5 1 (.int v2) fun h2 =>
pV h2 (some v0) 5 2 (.int v3) fun h3 =>
pV h3 (some v0) 5 3 (.int v4) fun h4 =>
pV h4 (some v0) 5 4 (.int v5) fun h5 =>
Q h5
def f_X1_inRange (E : Nat → Nat) (v0 : Int64) (v2 : Int64) (v4 : Int64) (h : hH) (Q : Int32 → hH → Prop) : Prop :=
cnd ((lg_cmp v0 v2) < (0:Int32)) (Q (0:Int32) h) (cnd ((0:Int32) < (lg_cmp v0 v4)) (Q (0:Int32) h) (Q (1:Int32) h))
def f_X8_isOperand_j21 (E : Nat → Nat) (Q : Int32 → hH → Prop) (s0 : Int64) (s1 : Int64) (s2 : Int64) (h : hH) : Prop :=
f_X1_inRange E s0 s1 s2 h (fun x2 h1 =>
nz x2 ∧ Q x2 h1)
def f_X8_isOperand_j12 (E : Nat → Nat) (Q : Int32 → hH → Prop) (s0 : Int64) (s1 : Int64) (h : hH) : Prop :=
f_X8_isOperand_j21 E Q s0 s1 (9999:Int64) h
def f_X8_isOperand (E : Nat → Nat) (v0 : Int32) (v1 : Int32) (h : hH) (Q : Int32 → hH → Prop) : Prop :=
cnd (v0 = (0:Int32)) (f_X8_isOperand_j12 E Q v1.toInt64 (0:Int64) h) (cnd (v0 = (1:Int32)) (f_X8_isOperand_j12 E Q v1.toInt64 (0:Int64) h) (f_X8_isOperand_j21 E Q v1.toInt64 (0:Int64) (15:Int64) h))
def f_X8_writes_j24 (E : Nat → Nat) (v0 : Nat) (Q : Int32 → hH → Prop) (h : hH) : Prop :=
Q (1:Int32) h
def f_X8_writes (E : Nat → Nat) (v0 : Nat) (v1 : Int32) (h : hH) (Q : Int32 → hH → Prop) : Prop :=
gI h (some v0) 5 3 fun x1 =>
cnd (x1 = v1) (f_X8_writes_j24 E v0 Q h) (gI h (some v0) 5 2 fun x2 =>
cnd (x2 = (4:Int32)) (gI h (some v0) 5 4 fun x3 =>
cnd (x3 = v1) (f_X8_writes_j24 E v0 Q h) (Q (0:Int32) h)) (Q (0:Int32) h))
def f_X9_init (E : Nat → Nat) (v0 : Nat) (v1 : Int32) (v2 : Int32) (v3 : Int32) (v4 : Int32) (h : hH) (Q : hH → Prop) : Prop :=
pV h (some v0) 6 0 (.int v1) fun h1 =>
pV h1 (some v0) 6 1 (.int v2) fun h2 =>
pV h2 (some v0) 6 2 (.int v3) fun h3 =>
pV h3 (some v0) 6 3 (.int v4) fun h4 =>
Q h4
def f_X16_init (E : Nat → Nat) (v0 : Nat) (v1 : Int32) (h : hH) (Q : hH → Prop) : Prop :=
pV h (some v0) 13 0 (.int v1) fun h1 =>
Q h1
def f_X15_init (E : Nat → Nat) (v0 : Nat) (v1 : Int32) (h : hH) (Q : hH → Prop) : Prop :=
pV h (some v0) 12 0 (.int v1) fun h1 =>
Q h1
def f_X15_hashCode (E : Nat → Nat) (v0 : Nat) (h : hH) (Q : Int32 → hH → Prop) : Prop :=
gI h (some v0) 12 0 fun x1 =>
Q x1 h
def f_X15_equals (E : Nat → Nat) (v0 : Nat) (v1 : Option Nat) (h : hH) (Q : Int32 → hH → Prop) : Prop :=
ioY h v1 12 fun x1 =>
cnd (x1 = (0:Int32)) (Q (0:Int32) h) (ckT h v1 12 (gI h v1 12 0 fun x2 =>
gI h (some v0) 12 0 fun x3 =>
cnd (x2 = x3) (Q (1:Int32) h) (Q (0:Int32) h)))
def f_J4_init (E : Nat → Nat) (v0 : Nat) (v1 : Int32) (v2 : Option Nat) (h : hH) (Q : hH → Prop) : Prop :=
f_J3_init E v0 h (fun h1 =>
cnd ((1:Int32) ≤ v1) (nAq h1 4 v1 8 fun q2 h3 =>
pV h3 (some v0) 17 0 (va_rf (some q2)) fun h4 =>
pV h4 (some v0) 17 2 (va_rf v2) fun h5 =>
Q h5) (False))
def f_J4_size (E : Nat → Nat) (v0 : Nat) (h : hH) (Q : Int32 → hH → Prop) : Prop :=
gI h (some v0) 17 1 fun x1 =>
Q x1 h
def f_J4_siftUpUsingComparator_l0 (E : Nat → Nat) (Q : hH → Prop) (K29 : Int32 → Option Nat → Option Nat → hH → Prop) (K43 : Int32 → Option Nat → Option Nat → hH → Prop) : Nat → Int32 → Option Nat → Option Nat → Option Nat → hH → Prop
  | 0, _, _, _, _, _ => False
  | n + 1, l0, l1, l2, l3, h => cnd (l0 ≤ (0:Int32)) (K43 l0 l1 l2 h) (ldQ h l2 4 (iUsh (l0 - (1:Int32)) (1:Int32)) fun x1 =>
(isT h l3 14 fun a5 => f_X4_compare E a5 l1 x1 h (fun x3 h2 =>
cnd (x3 < (0:Int32)) (stQ h2 l2 4 l0 x1 fun h4 =>
(f_J4_siftUpUsingComparator_l0 E Q K29 K43 n) (iUsh (l0 - (1:Int32)) (1:Int32)) l1 l2 l3 h4) (K29 l0 l1 l2 h2))) ∨ (isT h l3 15 fun a6 => f_X17_compare E a6 l1 x1 h (fun x3 h2 =>
cnd (x3 < (0:Int32)) (stQ h2 l2 4 l0 x1 fun h4 =>
(f_J4_siftUpUsingComparator_l0 E Q K29 K43 n) (iUsh (l0 - (1:Int32)) (1:Int32)) l1 l2 l3 h4) (K29 l0 l1 l2 h2))))
def f_J4_siftUpUsingComparator_j43 (E : Nat → Nat) (Q : hH → Prop) (l0 : Int32) (l1 : Option Nat) (l2 : Option Nat) (h : hH) : Prop :=
stQ h l2 4 l0 l1 fun h7 =>
Q h7
def f_J4_siftUpUsingComparator (E : Nat → Nat) (v0 : Int32) (v1 : Option Nat) (v2 : Option Nat) (v3 : Option Nat) (h : hH) (Q : hH → Prop) : Prop :=
f_J4_siftUpUsingComparator_l0 E Q (fun l0 l1 l2 h => f_J4_siftUpUsingComparator_j43 E Q l0 l1 l2 h) (fun l0 l1 l2 h => f_J4_siftUpUsingComparator_j43 E Q l0 l1 l2 h) 1000000 v0 v1 v2 v3 h
def f_J4_siftUp (E : Nat → Nat) (v0 : Nat) (v1 : Int32) (v2 : Option Nat) (h : hH) (Q : hH → Prop) : Prop :=
gR h (some v0) 17 2 fun x1 =>
cnd (x1 = none) (gR h (some v0) 17 0 fun x2 =>
False) (gR h (some v0) 17 0 fun x3 =>
gR h (some v0) 17 2 fun x4 =>
f_J4_siftUpUsingComparator E v1 v2 x3 x4 h (fun h5 =>
Q h5))
def f_J4_offer_j43 (E : Nat → Nat) (v0 : Nat) (Q : Int32 → hH → Prop) (l1 : Option Nat) (l2 : Int32) (h : hH) : Prop :=
isT h (some v0) 17 fun a2 => f_J4_siftUp E a2 l2 l1 h (fun h1 =>
pV h1 (some v0) 17 1 (.int (l2 + (1:Int32))) fun h3 =>
Q (1:Int32) h3)
def f_J4_offer (E : Nat → Nat) (v0 : Nat) (v1 : Option Nat) (h : hH) (Q : Int32 → hH → Prop) : Prop :=
cnd (v1 = none) (False) (gI h (some v0) 17 3 fun x4 =>
pV h (some v0) 17 3 (.int (x4 + (1:Int32))) fun h5 =>
gI h5 (some v0) 17 1 fun x6 =>
gR h5 (some v0) 17 0 fun x7 =>
aLn h5 x7 4 fun x8 =>
cnd (x6 < x8) (f_J4_offer_j43 E v0 Q v1 x6 h5) (False))
def f_J4_add (E : Nat → Nat) (v0 : Nat) (v1 : Option Nat) (h : hH) (Q : Int32 → hH → Prop) : Prop :=
isT h (some v0) 17 fun a3 => f_J4_offer E a3 v1 h (fun x2 h1 =>
nz x2 ∧ Q x2 h1)
def f_J4_siftDownUsingComparator_j61 (E : Nat → Nat) (Q : hH → Prop) (K5 : Int32 → Option Nat → Option Nat → Int32 → Option Nat → Int32 → hH → Prop) (K74 : Int32 → Option Nat → Option Nat → hH → Prop) (l0 : Int32) (l1 : Option Nat) (l2 : Option Nat) (l3 : Int32) (l4 : Option Nat) (l5 : Int32) (l6 : Int32) (l7 : Option Nat) (h : hH) : Prop :=
(isT h l4 14 fun a4 => f_X4_compare E a4 l1 l7 h (fun x2 h1 =>
cnd ((0:Int32) < x2) (stQ h1 l2 4 l0 l7 fun h3 =>
K5 l6 l1 l2 l3 l4 l5 h3) (K74 l0 l1 l2 h1))) ∨ (isT h l4 15 fun a5 => f_X17_compare E a5 l1 l7 h (fun x2 h1 =>
cnd ((0:Int32) < x2) (stQ h1 l2 4 l0 l7 fun h3 =>
K5 l6 l1 l2 l3 l4 l5 h3) (K74 l0 l1 l2 h1)))
def f_J4_siftDownUsingComparator_l5 (E : Nat → Nat) (Q : hH → Prop) (K74 : Int32 → Option Nat → Option Nat → hH → Prop) (K88 : Int32 → Option Nat → Option Nat → hH → Prop) : Nat → Int32 → Option Nat → Option Nat → Int32 → Option Nat → Int32 → hH → Prop
  | 0, _, _, _, _, _, _, _ => False
  | n + 1, l0, l1, l2, l3, l4, l5, h => cnd (l5 ≤ l0) (K88 l0 l1 l2 h) (ldQ h l2 4 ((l0 <<< ((1:Int32) &&& 31)) + (1:Int32)) fun x6 =>
cnd (l3 ≤ (((l0 <<< ((1:Int32) &&& 31)) + (1:Int32)) + (1:Int32))) (f_J4_siftDownUsingComparator_j61 E Q (f_J4_siftDownUsingComparator_l5 E Q K74 K88 n) K74 l0 l1 l2 l3 l4 l5 ((l0 <<< ((1:Int32) &&& 31)) + (1:Int32)) x6 h) (ldQ h l2 4 (((l0 <<< ((1:Int32) &&& 31)) + (1:Int32)) + (1:Int32)) fun x7 =>
(isT h l4 14 fun a11 => f_X4_compare E a11 x6 x7 h (fun x9 h8 =>
cnd (x9 ≤ (0:Int32)) (f_J4_siftDownUsingComparator_j61 E Q (f_J4_siftDownUsingComparator_l5 E Q K74 K88 n) K74 l0 l1 l2 l3 l4 l5 ((l0 <<< ((1:Int32) &&& 31)) + (1:Int32)) x6 h8) (ldQ h8 l2 4 (((l0 <<< ((1:Int32) &&& 31)) + (1:Int32)) + (1:Int32)) fun x10 =>
f_J4_siftDownUsingComparator_j61 E Q (f_J4_siftDownUsingComparator_l5 E Q K74 K88 n) K74 l0 l1 l2 l3 l4 l5 (((l0 <<< ((1:Int32) &&& 31)) + (1:Int32)) + (1:Int32)) x10 h8))) ∨ (isT h l4 15 fun a12 => f_X17_compare E a12 x6 x7 h (fun x9 h8 =>
cnd (x9 ≤ (0:Int32)) (f_J4_siftDownUsingComparator_j61 E Q (f_J4_siftDownUsingComparator_l5 E Q K74 K88 n) K74 l0 l1 l2 l3 l4 l5 ((l0 <<< ((1:Int32) &&& 31)) + (1:Int32)) x6 h8) (ldQ h8 l2 4 (((l0 <<< ((1:Int32) &&& 31)) + (1:Int32)) + (1:Int32)) fun x10 =>
f_J4_siftDownUsingComparator_j61 E Q (f_J4_siftDownUsingComparator_l5 E Q K74 K88 n) K74 l0 l1 l2 l3 l4 l5 (((l0 <<< ((1:Int32) &&& 31)) + (1:Int32)) + (1:Int32)) x10 h8)))))
def f_J4_siftDownUsingComparator_j88 (E : Nat → Nat) (Q : hH → Prop) (l0 : Int32) (l1 : Option Nat) (l2 : Option Nat) (h : hH) : Prop :=
stQ h l2 4 l0 l1 fun h13 =>
Q h13
def f_J4_siftDownUsingComparator (E : Nat → Nat) (v0 : Int32) (v1 : Option Nat) (v2 : Option Nat) (v3 : Int32) (v4 : Option Nat) (h : hH) (Q : hH → Prop) : Prop :=
f_J4_siftDownUsingComparator_l5 E Q (fun l0 l1 l2 h => f_J4_siftDownUsingComparator_j88 E Q l0 l1 l2 h) (fun l0 l1 l2 h => f_J4_siftDownUsingComparator_j88 E Q l0 l1 l2 h) 1000000 v0 v1 v2 v3 v4 (iUsh v3 (1:Int32)) h
def f_J4_poll (E : Nat → Nat) (v0 : Nat) (h : hH) (Q : Option Nat → hH → Prop) : Prop :=
gR h (some v0) 17 0 fun x1 =>
ldQ h x1 4 (0:Int32) fun x2 =>
cnd (x2 = none) (Q x2 h) (gI h (some v0) 17 3 fun x3 =>
pV h (some v0) 17 3 (.int (x3 + (1:Int32))) fun h4 =>
gI h4 (some v0) 17 1 fun x5 =>
pV h4 (some v0) 17 1 (.int (x5 - (1:Int32))) fun h6 =>
ldQ h6 x1 4 (x5 - (1:Int32)) fun x7 =>
stQ h6 x1 4 (x5 - (1:Int32)) none fun h8 =>
cnd ((x5 - (1:Int32)) ≤ (0:Int32)) (Q x2 h8) (gR h8 (some v0) 17 2 fun x9 =>
cnd (x9 = none) (False) (f_J4_siftDownUsingComparator E (0:Int32) x7 x1 (x5 - (1:Int32)) x9 h8 (fun h10 =>
Q x2 h10))))
def f_J42_init (E : Nat → Nat) (v0 : Nat) (v1 : Option Nat) (h : hH) (Q : hH → Prop) : Prop :=
pV h (some v0) 18 5 (va_rf v1) fun h1 =>
pV h1 (some v0) 18 1 (.int (-1:Int32)) fun h2 =>
gR h2 (some v0) 18 5 fun x3 =>
gI h2 x3 17 3 fun x4 =>
pV h2 (some v0) 18 4 (.int x4) fun h5 =>
Q h5
def f_J4_iterator (E : Nat → Nat) (v0 : Nat) (h : hH) (Q : Option Nat → hH → Prop) : Prop :=
nO h 18 [.int 0, .int 0, va_rf none, va_rf none, .int 0, va_rf none] fun q1 h2 =>
f_J42_init E q1 (some v0) h2 (fun h3 =>
Q (some q1) h3)
def f_J5_elementAt (E : Nat → Nat) (v0 : Option Nat) (v1 : Int32) (h : hH) (Q : Option Nat → hH → Prop) : Prop :=
ldQ h v0 4 v1 fun x1 =>
Q x1 h
def f_J5_inc (E : Nat → Nat) (v0 : Int32) (v1 : Int32) (h : hH) (Q : Int32 → hH → Prop) : Prop :=
cnd ((v0 + (1:Int32)) < v1) (Q (v0 + (1:Int32)) h) (Q (0:Int32) h)
def f_J5_pollFirst (E : Nat → Nat) (v0 : Nat) (h : hH) (Q : Option Nat → hH → Prop) : Prop :=
gR h (some v0) 19 0 fun x1 =>
gI h (some v0) 19 1 fun x2 =>
f_J5_elementAt E x1 x2 h (fun x4 h3 =>
cnd (x4 = none) (Q x4 h3) (stQ h3 x1 4 x2 none fun h5 =>
aLn h5 x1 4 fun x6 =>
f_J5_inc E x2 x6 h5 (fun x8 h7 =>
pV h7 (some v0) 19 1 (.int x8) fun h9 =>
Q x4 h9)))
def f_J5_poll (E : Nat → Nat) (v0 : Nat) (h : hH) (Q : Option Nat → hH → Prop) : Prop :=
isT h (some v0) 19 fun a3 => f_J5_pollFirst E a3 h (fun x2 h1 =>
Q x2 h1)
def f_J42_next_j96 (E : Nat → Nat) (v0 : Nat) (Q : Option Nat → hH → Prop) (h : hH) : Prop :=
False
def f_J42_next (E : Nat → Nat) (v0 : Nat) (h : hH) (Q : Option Nat → hH → Prop) : Prop :=
gI h (some v0) 18 4 fun x1 =>
gR h (some v0) 18 5 fun x2 =>
gI h x2 17 3 fun x3 =>
cnd (x1 = x3) (gI h (some v0) 18 0 fun x4 =>
gR h (some v0) 18 5 fun x5 =>
gI h x5 17 1 fun x6 =>
cnd (x6 ≤ x4) (gR h (some v0) 18 2 fun x7 =>
cnd (x7 = none) (f_J42_next_j96 E v0 Q h) (pV h (some v0) 18 1 (.int (-1:Int32)) fun h8 =>
gR h8 (some v0) 18 2 fun x9 =>
isT h8 x9 19 fun a12 => f_J5_poll E a12 h8 (fun x11 h10 =>
pV h10 (some v0) 18 3 (va_rf x11) fun h13 =>
gR h13 (some v0) 18 3 fun x14 =>
cnd (x14 = none) (f_J42_next_j96 E v0 Q h13) (gR h13 (some v0) 18 3 fun x15 =>
Q x15 h13)))) (gR h (some v0) 18 5 fun x16 =>
gR h x16 17 0 fun x17 =>
gI h (some v0) 18 0 fun x18 =>
pV h (some v0) 18 0 (.int (x18 + (1:Int32))) fun h19 =>
pV h19 (some v0) 18 1 (.int x18) fun h20 =>
ldQ h20 x17 4 x18 fun x21 =>
Q x21 h20)) (False)
def f_J5_isEmpty (E : Nat → Nat) (v0 : Nat) (h : hH) (Q : Int32 → hH → Prop) : Prop :=
gI h (some v0) 19 1 fun x1 =>
gI h (some v0) 19 2 fun x2 =>
cnd (x1 = x2) (Q (1:Int32) h) (Q (0:Int32) h)
def f_J42_hasNext_j31 (E : Nat → Nat) (v0 : Nat) (Q : Int32 → hH → Prop) (h : hH) : Prop :=
Q (1:Int32) h
def f_J42_hasNext (E : Nat → Nat) (v0 : Nat) (h : hH) (Q : Int32 → hH → Prop) : Prop :=
gI h (some v0) 18 0 fun x1 =>
gR h (some v0) 18 5 fun x2 =>
gI h x2 17 1 fun x3 =>
cnd (x1 < x3) (f_J42_hasNext_j31 E v0 Q h) (gR h (some v0) 18 2 fun x4 =>
cnd (x4 = none) (Q (0:Int32) h) (gR h (some v0) 18 2 fun x5 =>
isT h x5 19 fun a8 => f_J5_isEmpty E a8 h (fun x7 h6 =>
cnd (x7 = (0:Int32)) (f_J42_hasNext_j31 E v0 Q h6) (Q (0:Int32) h6))))
def f_J5_init (E : Nat → Nat) (v0 : Nat) (h : hH) (Q : hH → Prop) : Prop :=
f_J0_init E v0 h (fun h1 =>
nAq h1 4 (17:Int32) 17 fun q2 h3 =>
pV h3 (some v0) 19 0 (va_rf (some q2)) fun h4 =>
Q h4)
def f_J5_dec (E : Nat → Nat) (v0 : Int32) (v1 : Int32) (h : hH) (Q : Int32 → hH → Prop) : Prop :=
cnd ((0:Int32) ≤ (v0 + (-1:Int32))) (Q (v0 + (-1:Int32)) h) (Q (v1 - (1:Int32)) h)
def f_J5_pollLast (E : Nat → Nat) (v0 : Nat) (h : hH) (Q : Option Nat → hH → Prop) : Prop :=
gR h (some v0) 19 0 fun x1 =>
gI h (some v0) 19 2 fun x2 =>
aLn h x1 4 fun x3 =>
f_J5_dec E x2 x3 h (fun x5 h4 =>
f_J5_elementAt E x1 x5 h4 (fun x7 h6 =>
cnd (x7 = none) (Q x7 h6) (pV h6 (some v0) 19 2 (.int x5) fun h8 =>
stQ h8 x1 4 x5 none fun h9 =>
Q x7 h9)))
def f_J5_removeLast (E : Nat → Nat) (v0 : Nat) (h : hH) (Q : Option Nat → hH → Prop) : Prop :=
isT h (some v0) 19 fun a3 => f_J5_pollLast E a3 h (fun x2 h1 =>
cnd (x2 = none) (False) (Q x2 h1))
def f_J5_sub (E : Nat → Nat) (v0 : Int32) (v1 : Int32) (v2 : Int32) (h : hH) (Q : Int32 → hH → Prop) : Prop :=
cnd ((0:Int32) ≤ (v0 - v1)) (Q (v0 - v1) h) (Q ((v0 - v1) + v2) h)
def f_J5_size (E : Nat → Nat) (v0 : Nat) (h : hH) (Q : Int32 → hH → Prop) : Prop :=
gI h (some v0) 19 2 fun x1 =>
gI h (some v0) 19 1 fun x2 =>
gR h (some v0) 19 0 fun x3 =>
aLn h x3 4 fun x4 =>
f_J5_sub E x1 x2 x4 h (fun x6 h5 =>
Q x6 h5)
def f_J5_circularClear_l12 (E : Nat → Nat) (Q : hH → Prop) (K32 : hH → Prop) : Nat → Option Nat → Int32 → Int32 → Int32 → hH → Prop
  | 0, _, _, _, _, _ => False
  | n + 1, l0, l1, l2, l3, h => cnd (l3 ≤ l1) (cnd (l3 = l2) (K32 h) ((f_J5_circularClear_l12 E Q K32 n) l0 (0:Int32) l2 l2 h)) (stQ h l0 4 l1 none fun h1 =>
(f_J5_circularClear_l12 E Q K32 n) l0 (l1 + (1:Int32)) l2 l3 h1)
def f_J5_circularClear (E : Nat → Nat) (v0 : Option Nat) (v1 : Int32) (v2 : Int32) (h : hH) (Q : hH → Prop) : Prop :=
cnd (v2 < v1) (aLn h v0 4 fun x2 =>
f_J5_circularClear_l12 E Q (fun h => Q h) 1000000 v0 v1 v2 x2 h) (f_J5_circularClear_l12 E Q (fun h => Q h) 1000000 v0 v1 v2 v2 h)
def f_J5_clear (E : Nat → Nat) (v0 : Nat) (h : hH) (Q : hH → Prop) : Prop :=
gR h (some v0) 19 0 fun x1 =>
gI h (some v0) 19 1 fun x2 =>
gI h (some v0) 19 2 fun x3 =>
f_J5_circularClear E x1 x2 x3 h (fun h4 =>
pV h4 (some v0) 19 2 (.int (0:Int32)) fun h5 =>
pV h5 (some v0) 19 1 (.int (0:Int32)) fun h6 =>
Q h6)
def f_J5_removeFirst (E : Nat → Nat) (v0 : Nat) (h : hH) (Q : Option Nat → hH → Prop) : Prop :=
isT h (some v0) 19 fun a3 => f_J5_pollFirst E a3 h (fun x2 h1 =>
cnd (x2 = none) (False) (Q x2 h1))
def f_J5_pop (E : Nat → Nat) (v0 : Nat) (h : hH) (Q : Option Nat → hH → Prop) : Prop :=
isT h (some v0) 19 fun a3 => f_J5_removeFirst E a3 h (fun x2 h1 =>
Q x2 h1)
def f_J5_addFirst (E : Nat → Nat) (v0 : Nat) (v1 : Option Nat) (h : hH) (Q : hH → Prop) : Prop :=
cnd (v1 = none) (False) (gR h (some v0) 19 0 fun x1 =>
gI h (some v0) 19 1 fun x2 =>
aLn h x1 4 fun x3 =>
f_J5_dec E x2 x3 h (fun x5 h4 =>
pV h4 (some v0) 19 1 (.int x5) fun h6 =>
stQ h6 x1 4 x5 v1 fun h7 =>
gI h7 (some v0) 19 1 fun x8 =>
gI h7 (some v0) 19 2 fun x9 =>
cnd (x8 = x9) (False) (Q h7)))
def f_J5_push (E : Nat → Nat) (v0 : Nat) (v1 : Option Nat) (h : hH) (Q : hH → Prop) : Prop :=
isT h (some v0) 19 fun a2 => f_J5_addFirst E a2 v1 h (fun h1 =>
Q h1)
def f_J5_addLast (E : Nat → Nat) (v0 : Nat) (v1 : Option Nat) (h : hH) (Q : hH → Prop) : Prop :=
cnd (v1 = none) (False) (gR h (some v0) 19 0 fun x1 =>
gI h (some v0) 19 2 fun x2 =>
stQ h x1 4 x2 v1 fun h3 =>
gI h3 (some v0) 19 1 fun x4 =>
gI h3 (some v0) 19 2 fun x5 =>
aLn h3 x1 4 fun x6 =>
f_J5_inc E x5 x6 h3 (fun x8 h7 =>
pV h7 (some v0) 19 2 (.int x8) fun h9 =>
cnd (x4 = x8) (False) (Q h9)))
def f_J24_init (E : Nat → Nat) (v0 : Nat) (h : hH) (Q : hH → Prop) : Prop :=
f_J23_init E v0 h (fun h1 =>
pV h1 (some v0) 23 4 (.int (0:Int32)) fun h2 =>
pV h2 (some v0) 23 5 (.int (0:Int32)) fun h3 =>
pV h3 (some v0) 23 2 (va_rf none) fun h4 =>
Q h4)
def f_J24_compare (E : Nat → Nat) (v0 : Nat) (v1 : Option Nat) (v2 : Option Nat) (h : hH) (Q : Int32 → hH → Prop) : Prop :=
gR h (some v0) 23 2 fun x1 =>
cnd (x1 = none) (ckT h v1 22 (isT h v1 22 fun a4 => f_J20_compareTo E a4 v2 h (fun x3 h2 =>
Q x3 h2))) (False)
def f_J25_init (E : Nat → Nat) (v0 : Nat) (v1 : Option Nat) (v2 : Option Nat) (v3 : Option Nat) (h : hH) (Q : hH → Prop) : Prop :=
pV h (some v0) 24 5 (.int (1:Int32)) fun h1 =>
pV h1 (some v0) 24 0 (va_rf v1) fun h2 =>
pV h2 (some v0) 24 1 (va_rf v2) fun h3 =>
pV h3 (some v0) 24 4 (va_rf v3) fun h4 =>
Q h4
def f_J24_addEntryToEmptyMap (E : Nat → Nat) (v0 : Nat) (v1 : Option Nat) (v2 : Option Nat) (h : hH) (Q : hH → Prop) : Prop :=
isT h (some v0) 23 fun a3 => f_J24_compare E a3 v1 v1 h (fun x2 h1 =>
nO h1 24 [va_rf none, va_rf none, va_rf none, va_rf none, va_rf none, .int 0] fun q4 h5 =>
f_J25_init E q4 v1 v2 none h5 (fun h6 =>
pV h6 (some v0) 23 3 (va_rf (some q4)) fun h7 =>
pV h7 (some v0) 23 4 (.int (1:Int32)) fun h8 =>
gI h8 (some v0) 23 5 fun x9 =>
pV h8 (some v0) 23 5 (.int (x9 + (1:Int32))) fun h10 =>
Q h10))
def f_J24_parentOf (E : Nat → Nat) (v0 : Option Nat) (h : hH) (Q : Option Nat → hH → Prop) : Prop :=
cnd (v0 = none) (Q none h) (gR h v0 24 4 fun x1 =>
Q x1 h)
def f_J24_leftOf (E : Nat → Nat) (v0 : Option Nat) (h : hH) (Q : Option Nat → hH → Prop) : Prop :=
cnd (v0 = none) (Q none h) (gR h v0 24 2 fun x1 =>
Q x1 h)
def f_J24_rightOf (E : Nat → Nat) (v0 : Option Nat) (h : hH) (Q : Option Nat → hH → Prop) : Prop :=
cnd (v0 = none) (Q none h) (gR h v0 24 3 fun x1 =>
Q x1 h)
def f_J24_colorOf (E : Nat → Nat) (v0 : Option Nat) (h : hH) (Q : Int32 → hH → Prop) : Prop :=
cnd (v0 = none) (Q (1:Int32) h) (gI h v0 24 5 fun x1 =>
nz x1 ∧ Q x1 h)
def f_J24_setColor (E : Nat → Nat) (v0 : Option Nat) (v1 : Int32) (h : hH) (Q : hH → Prop) : Prop :=
cnd (v0 = none) (Q h) (nfit .boolean v1 ∧ pV h v0 24 5 (.int v1) fun h1 =>
Q h1)
def f_J24_rotateLeft_j85 (E : Nat → Nat) (v0 : Nat) (Q : hH → Prop) (l1 : Option Nat) (l2 : Option Nat) (h : hH) : Prop :=
pV h l2 24 2 (va_rf l1) fun h1 =>
pV h1 l1 24 4 (va_rf l2) fun h2 =>
Q h2
def f_J24_rotateLeft_j32 (E : Nat → Nat) (v0 : Nat) (Q : hH → Prop) (l1 : Option Nat) (l2 : Option Nat) (h : hH) : Prop :=
gR h l1 24 4 fun x3 =>
pV h l2 24 4 (va_rf x3) fun h4 =>
gR h4 l1 24 4 fun x5 =>
cnd (x5 = none) (pV h4 (some v0) 23 3 (va_rf l2) fun h12 =>
f_J24_rotateLeft_j85 E v0 Q l1 l2 h12) (gR h4 l1 24 4 fun x6 =>
gR h4 x6 24 2 fun x7 =>
cnd (x7 = l1) (gR h4 l1 24 4 fun x10 =>
pV h4 x10 24 2 (va_rf l2) fun h11 =>
f_J24_rotateLeft_j85 E v0 Q l1 l2 h11) (gR h4 l1 24 4 fun x8 =>
pV h4 x8 24 3 (va_rf l2) fun h9 =>
f_J24_rotateLeft_j85 E v0 Q l1 l2 h9))
def f_J24_rotateLeft (E : Nat → Nat) (v0 : Nat) (v1 : Option Nat) (h : hH) (Q : hH → Prop) : Prop :=
cnd (v1 = none) (Q h) (gR h v1 24 3 fun x13 =>
gR h x13 24 2 fun x14 =>
pV h v1 24 3 (va_rf x14) fun h15 =>
gR h15 x13 24 2 fun x16 =>
cnd (x16 = none) (f_J24_rotateLeft_j32 E v0 Q v1 x13 h15) (gR h15 x13 24 2 fun x17 =>
pV h15 x17 24 4 (va_rf v1) fun h18 =>
f_J24_rotateLeft_j32 E v0 Q v1 x13 h18))
def f_J24_rotateRight_j85 (E : Nat → Nat) (v0 : Nat) (Q : hH → Prop) (l1 : Option Nat) (l2 : Option Nat) (h : hH) : Prop :=
pV h l2 24 3 (va_rf l1) fun h1 =>
pV h1 l1 24 4 (va_rf l2) fun h2 =>
Q h2
def f_J24_rotateRight_j32 (E : Nat → Nat) (v0 : Nat) (Q : hH → Prop) (l1 : Option Nat) (l2 : Option Nat) (h : hH) : Prop :=
gR h l1 24 4 fun x3 =>
pV h l2 24 4 (va_rf x3) fun h4 =>
gR h4 l1 24 4 fun x5 =>
cnd (x5 = none) (pV h4 (some v0) 23 3 (va_rf l2) fun h12 =>
f_J24_rotateRight_j85 E v0 Q l1 l2 h12) (gR h4 l1 24 4 fun x6 =>
gR h4 x6 24 3 fun x7 =>
cnd (x7 = l1) (gR h4 l1 24 4 fun x10 =>
pV h4 x10 24 3 (va_rf l2) fun h11 =>
f_J24_rotateRight_j85 E v0 Q l1 l2 h11) (gR h4 l1 24 4 fun x8 =>
pV h4 x8 24 2 (va_rf l2) fun h9 =>
f_J24_rotateRight_j85 E v0 Q l1 l2 h9))
def f_J24_rotateRight (E : Nat → Nat) (v0 : Nat) (v1 : Option Nat) (h : hH) (Q : hH → Prop) : Prop :=
cnd (v1 = none) (Q h) (gR h v1 24 2 fun x13 =>
gR h x13 24 3 fun x14 =>
pV h v1 24 2 (va_rf x14) fun h15 =>
gR h15 x13 24 3 fun x16 =>
cnd (x16 = none) (f_J24_rotateRight_j32 E v0 Q v1 x13 h15) (gR h15 x13 24 3 fun x17 =>
pV h15 x17 24 4 (va_rf v1) fun h18 =>
f_J24_rotateRight_j32 E v0 Q v1 x13 h18))
def f_J24_fixAfterInsertion_j225 (E : Nat → Nat) (v0 : Nat) (Q : hH → Prop) (K5 : Option Nat → hH → Prop) (l1 : Option Nat) (h : hH) : Prop :=
f_J24_parentOf E l1 h (fun x2 h1 =>
f_J24_setColor E x2 (1:Int32) h1 (fun h3 =>
f_J24_parentOf E l1 h3 (fun x5 h4 =>
f_J24_parentOf E x5 h4 (fun x7 h6 =>
f_J24_setColor E x7 (0:Int32) h6 (fun h8 =>
f_J24_parentOf E l1 h8 (fun x10 h9 =>
f_J24_parentOf E x10 h9 (fun x12 h11 =>
isT h11 (some v0) 23 fun a14 => f_J24_rotateLeft E a14 x12 h11 (fun h13 =>
K5 l1 h13))))))))
def f_J24_fixAfterInsertion_j118 (E : Nat → Nat) (v0 : Nat) (Q : hH → Prop) (K5 : Option Nat → hH → Prop) (l1 : Option Nat) (h : hH) : Prop :=
f_J24_parentOf E l1 h (fun x16 h15 =>
f_J24_setColor E x16 (1:Int32) h15 (fun h17 =>
f_J24_parentOf E l1 h17 (fun x19 h18 =>
f_J24_parentOf E x19 h18 (fun x21 h20 =>
f_J24_setColor E x21 (0:Int32) h20 (fun h22 =>
f_J24_parentOf E l1 h22 (fun x24 h23 =>
f_J24_parentOf E x24 h23 (fun x26 h25 =>
isT h25 (some v0) 23 fun a28 => f_J24_rotateRight E a28 x26 h25 (fun h27 =>
K5 l1 h27))))))))
def f_J24_fixAfterInsertion_l5 (E : Nat → Nat) (v0 : Nat) (Q : hH → Prop) (K258 : hH → Prop) : Nat → Option Nat → hH → Prop
  | 0, _, _ => False
  | n + 1, l1, h => cnd (l1 = none) (K258 h) (gR h (some v0) 23 3 fun x29 =>
cnd (l1 = x29) (K258 h) (gR h l1 24 4 fun x30 =>
gI h x30 24 5 fun x31 =>
cnd (x31 = (0:Int32)) (f_J24_parentOf E l1 h (fun x33 h32 =>
f_J24_parentOf E l1 h32 (fun x35 h34 =>
f_J24_parentOf E x35 h34 (fun x37 h36 =>
f_J24_leftOf E x37 h36 (fun x39 h38 =>
cnd (x33 = x39) (f_J24_parentOf E l1 h38 (fun x70 h69 =>
f_J24_parentOf E x70 h69 (fun x72 h71 =>
f_J24_rightOf E x72 h71 (fun x74 h73 =>
f_J24_colorOf E x74 h73 (fun x76 h75 =>
cnd (x76 = (0:Int32)) (f_J24_parentOf E l1 h75 (fun x86 h85 =>
f_J24_setColor E x86 (1:Int32) h85 (fun h87 =>
f_J24_setColor E x74 (1:Int32) h87 (fun h88 =>
f_J24_parentOf E l1 h88 (fun x90 h89 =>
f_J24_parentOf E x90 h89 (fun x92 h91 =>
f_J24_setColor E x92 (0:Int32) h91 (fun h93 =>
f_J24_parentOf E l1 h93 (fun x95 h94 =>
f_J24_parentOf E x95 h94 (fun x97 h96 =>
(f_J24_fixAfterInsertion_l5 E v0 Q K258 n) x97 h96))))))))) (f_J24_parentOf E l1 h75 (fun x78 h77 =>
f_J24_rightOf E x78 h77 (fun x80 h79 =>
cnd (l1 = x80) (f_J24_parentOf E l1 h79 (fun x82 h81 =>
isT h81 (some v0) 23 fun a84 => f_J24_rotateLeft E a84 x82 h81 (fun h83 =>
f_J24_fixAfterInsertion_j118 E v0 Q (f_J24_fixAfterInsertion_l5 E v0 Q K258 n) x82 h83))) (f_J24_fixAfterInsertion_j118 E v0 Q (f_J24_fixAfterInsertion_l5 E v0 Q K258 n) l1 h79))))))))) (f_J24_parentOf E l1 h38 (fun x41 h40 =>
f_J24_parentOf E x41 h40 (fun x43 h42 =>
f_J24_leftOf E x43 h42 (fun x45 h44 =>
f_J24_colorOf E x45 h44 (fun x47 h46 =>
cnd (x47 = (0:Int32)) (f_J24_parentOf E l1 h46 (fun x57 h56 =>
f_J24_setColor E x57 (1:Int32) h56 (fun h58 =>
f_J24_setColor E x45 (1:Int32) h58 (fun h59 =>
f_J24_parentOf E l1 h59 (fun x61 h60 =>
f_J24_parentOf E x61 h60 (fun x63 h62 =>
f_J24_setColor E x63 (0:Int32) h62 (fun h64 =>
f_J24_parentOf E l1 h64 (fun x66 h65 =>
f_J24_parentOf E x66 h65 (fun x68 h67 =>
(f_J24_fixAfterInsertion_l5 E v0 Q K258 n) x68 h67))))))))) (f_J24_parentOf E l1 h46 (fun x49 h48 =>
f_J24_leftOf E x49 h48 (fun x51 h50 =>
cnd (l1 = x51) (f_J24_parentOf E l1 h50 (fun x53 h52 =>
isT h52 (some v0) 23 fun a55 => f_J24_rotateRight E a55 x53 h52 (fun h54 =>
f_J24_fixAfterInsertion_j225 E v0 Q (f_J24_fixAfterInsertion_l5 E v0 Q K258 n) x53 h54))) (f_J24_fixAfterInsertion_j225 E v0 Q (f_J24_fixAfterInsertion_l5 E v0 Q K258 n) l1 h50)))))))))))))) (K258 h)))
def f_J24_fixAfterInsertion_j258 (E : Nat → Nat) (v0 : Nat) (Q : hH → Prop) (h : hH) : Prop :=
gR h (some v0) 23 3 fun x98 =>
pV h x98 24 5 (.int (1:Int32)) fun h99 =>
Q h99
def f_J24_fixAfterInsertion (E : Nat → Nat) (v0 : Nat) (v1 : Option Nat) (h : hH) (Q : hH → Prop) : Prop :=
pV h v1 24 5 (.int (0:Int32)) fun h100 =>
f_J24_fixAfterInsertion_l5 E v0 Q (fun h => f_J24_fixAfterInsertion_j258 E v0 Q h) 1000000 v1 h100
def f_J24_addEntry_j32 (E : Nat → Nat) (v0 : Nat) (Q : hH → Prop) (l5 : Option Nat) (h : hH) : Prop :=
isT h (some v0) 23 fun a2 => f_J24_fixAfterInsertion E a2 l5 h (fun h1 =>
gI h1 (some v0) 23 4 fun x3 =>
pV h1 (some v0) 23 4 (.int (x3 + (1:Int32))) fun h4 =>
gI h4 (some v0) 23 5 fun x5 =>
pV h4 (some v0) 23 5 (.int (x5 + (1:Int32))) fun h6 =>
Q h6)
def f_J24_addEntry (E : Nat → Nat) (v0 : Nat) (v1 : Option Nat) (v2 : Option Nat) (v3 : Option Nat) (v4 : Int32) (h : hH) (Q : hH → Prop) : Prop :=
nO h 24 [va_rf none, va_rf none, va_rf none, va_rf none, va_rf none, .int 0] fun q7 h8 =>
f_J25_init E q7 v1 v2 v3 h8 (fun h9 =>
cnd (v4 = (0:Int32)) (pV h9 v3 24 3 (va_rf (some q7)) fun h10 =>
f_J24_addEntry_j32 E v0 Q (some q7) h10) (pV h9 v3 24 2 (va_rf (some q7)) fun h11 =>
f_J24_addEntry_j32 E v0 Q (some q7) h11))
def f_J24_put_2_j196 (E : Nat → Nat) (v0 : Nat) (Q : Option Nat → hH → Prop) (K123 : Option Nat → Option Nat → Int32 → Option Nat → Option Nat → hH → Prop) (K201 : Option Nat → Option Nat → Int32 → Option Nat → hH → Prop) (l1 : Option Nat) (l2 : Option Nat) (l3 : Int32) (l4 : Option Nat) (l5 : Int32) (l6 : Option Nat) (l8 : Option Nat) (h : hH) : Prop :=
cnd (l4 = none) (K201 l1 l2 l5 l6 h) (K123 l1 l2 l3 l4 l8 h)
def f_J24_put_2_l123 (E : Nat → Nat) (v0 : Nat) (Q : Option Nat → hH → Prop) (K171 : Option Nat → Int32 → Option Nat → hH → Prop) (K201 : Option Nat → Option Nat → Int32 → Option Nat → hH → Prop) : Nat → Option Nat → Option Nat → Int32 → Option Nat → Option Nat → hH → Prop
  | 0, _, _, _, _, _, _ => False
  | n + 1, l1, l2, l3, l4, l8, h => gR h l4 24 0 fun x1 =>
isT h l8 22 fun a6 => f_J20_compareTo E a6 x1 h (fun x3 h2 =>
cnd ((0:Int32) ≤ x3) (cnd (x3 ≤ (0:Int32)) (K171 l2 l3 l4 h2) (gR h2 l4 24 3 fun x4 =>
f_J24_put_2_j196 E v0 Q (f_J24_put_2_l123 E v0 Q K171 K201 n) K201 l1 l2 l3 x4 x3 l4 l8 h2)) (gR h2 l4 24 2 fun x5 =>
f_J24_put_2_j196 E v0 Q (f_J24_put_2_l123 E v0 Q K171 K201 n) K201 l1 l2 l3 x5 x3 l4 l8 h2))
def f_J24_put_2_j187 (E : Nat → Nat) (v0 : Nat) (Q : Option Nat → hH → Prop) (l2 : Option Nat) (l4 : Option Nat) (l9 : Option Nat) (h : hH) : Prop :=
pV h l4 24 1 (va_rf l2) fun h7 =>
Q l9 h7
def f_J24_put_2_j216 (E : Nat → Nat) (v0 : Nat) (Q : Option Nat → hH → Prop) (s0 : Option Nat) (s1 : Option Nat) (s2 : Option Nat) (s3 : Option Nat) (s4 : Int32) (h : hH) : Prop :=
isT h s0 23 fun a9 => f_J24_addEntry E a9 s1 s2 s3 s4 h (fun h8 =>
Q none h8)
def f_J24_put_2 (E : Nat → Nat) (v0 : Nat) (v1 : Option Nat) (v2 : Option Nat) (v3 : Int32) (h : hH) (Q : Option Nat → hH → Prop) : Prop :=
gR h (some v0) 23 3 fun x10 =>
cnd (x10 = none) (isT h (some v0) 23 fun a16 => f_J24_addEntryToEmptyMap E a16 v1 v2 h (fun h15 =>
Q none h15)) (gR h (some v0) 23 2 fun x11 =>
cnd (x11 = none) (f_J18_requireNonNull E v1 h (fun x13 h12 =>
ckT h12 v1 22 (f_J24_put_2_l123 E v0 Q (fun l2 l3 l4 h => gR h l4 24 1 fun x14 =>
cnd (l3 = (0:Int32)) (cnd (x14 = none) (f_J24_put_2_j187 E v0 Q l2 l4 x14 h) (Q x14 h)) (f_J24_put_2_j187 E v0 Q l2 l4 x14 h)) (fun l1 l2 l5 l6 h => cnd ((0:Int32) ≤ l5) (f_J24_put_2_j216 E v0 Q (some v0) l1 l2 l6 (0:Int32) h) (f_J24_put_2_j216 E v0 Q (some v0) l1 l2 l6 (1:Int32) h)) 1000000 v1 v2 v3 x10 v1 h12))) (False))
def f_J24_put (E : Nat → Nat) (v0 : Nat) (v1 : Option Nat) (v2 : Option Nat) (h : hH) (Q : Option Nat → hH → Prop) : Prop :=
isT h (some v0) 23 fun a3 => f_J24_put_2 E a3 v1 v2 (1:Int32) h (fun x2 h1 =>
Q x2 h1)
def f_J24_getEntry_l28 (E : Nat → Nat) (v0 : Nat) (Q : Option Nat → hH → Prop) (K70 : Option Nat → hH → Prop) (K75 : hH → Prop) : Nat → Option Nat → Option Nat → hH → Prop
  | 0, _, _, _ => False
  | n + 1, l2, l3, h => cnd (l3 = none) (K75 h) (gR h l3 24 0 fun x1 =>
isT h l2 22 fun a6 => f_J20_compareTo E a6 x1 h (fun x3 h2 =>
cnd ((0:Int32) ≤ x3) (cnd (x3 ≤ (0:Int32)) (K70 l3 h2) (gR h2 l3 24 3 fun x4 =>
(f_J24_getEntry_l28 E v0 Q K70 K75 n) l2 x4 h2)) (gR h2 l3 24 2 fun x5 =>
(f_J24_getEntry_l28 E v0 Q K70 K75 n) l2 x5 h2)))
def f_J24_getEntry (E : Nat → Nat) (v0 : Nat) (v1 : Option Nat) (h : hH) (Q : Option Nat → hH → Prop) : Prop :=
gR h (some v0) 23 2 fun x7 =>
cnd (x7 = none) (f_J18_requireNonNull E v1 h (fun x9 h8 =>
ckT h8 v1 22 (gR h8 (some v0) 23 3 fun x10 =>
f_J24_getEntry_l28 E v0 Q (fun l3 h => Q l3 h) (fun h => Q none h) 1000000 v1 x10 h8))) (False)
def f_J24_get (E : Nat → Nat) (v0 : Nat) (v1 : Option Nat) (h : hH) (Q : Option Nat → hH → Prop) : Prop :=
isT h (some v0) 23 fun a3 => f_J24_getEntry E a3 v1 h (fun x2 h1 =>
cnd (x2 = none) (Q none h1) (gR h1 x2 24 1 fun x4 =>
Q x4 h1))
def f_J24_size (E : Nat → Nat) (v0 : Nat) (h : hH) (Q : Int32 → hH → Prop) : Prop :=
gI h (some v0) 23 4 fun x1 =>
Q x1 h
def f_J24_comparator (E : Nat → Nat) (v0 : Nat) (h : hH) (Q : Option Nat → hH → Prop) : Prop :=
gR h (some v0) 23 2 fun x1 =>
Q x1 h
def f_J18_equals_j17 (E : Nat → Nat) (Q : Int32 → hH → Prop) (h : hH) : Prop :=
Q (1:Int32) h
def f_J18_equals (E : Nat → Nat) (v0 : Option Nat) (v1 : Option Nat) (h : hH) (Q : Int32 → hH → Prop) : Prop :=
cnd (v0 = v1) (f_J18_equals_j17 E Q h) (cnd (v0 = none) (Q (0:Int32) h) (False))
def f_J37_init (E : Nat → Nat) (v0 : Nat) (v1 : Option Nat) (h : hH) (Q : hH → Prop) : Prop :=
pV h (some v0) 25 0 (va_rf v1) fun h1 =>
f_J35_init E v0 h1 (fun h2 =>
Q h2)
def f_J24_entrySet (E : Nat → Nat) (v0 : Nat) (h : hH) (Q : Option Nat → hH → Prop) : Prop :=
gR h (some v0) 23 6 fun x1 =>
cnd (x1 = none) (nO h 25 [va_rf none] fun q2 h3 =>
f_J37_init E q2 (some v0) h3 (fun h4 =>
pV h4 (some v0) 23 6 (va_rf (some q2)) fun h5 =>
Q (some q2) h5)) (Q x1 h)
def f_J24_getFirstEntry_l9 (E : Nat → Nat) (v0 : Nat) (Q : Option Nat → hH → Prop) (K24 : Option Nat → hH → Prop) : Nat → Option Nat → hH → Prop
  | 0, _, _ => False
  | n + 1, l1, h => gR h l1 24 2 fun x1 =>
cnd (x1 = none) (K24 l1 h) (gR h l1 24 2 fun x2 =>
(f_J24_getFirstEntry_l9 E v0 Q K24 n) x2 h)
def f_J24_getFirstEntry (E : Nat → Nat) (v0 : Nat) (h : hH) (Q : Option Nat → hH → Prop) : Prop :=
gR h (some v0) 23 3 fun x3 =>
cnd (x3 = none) (Q x3 h) (f_J24_getFirstEntry_l9 E v0 Q (fun l1 h => Q l1 h) 1000000 x3 h)
def f_J40_init (E : Nat → Nat) (v0 : Nat) (v1 : Option Nat) (v2 : Option Nat) (h : hH) (Q : hH → Prop) : Prop :=
pV h (some v0) 26 3 (va_rf v1) fun h1 =>
gI h1 v1 23 5 fun x2 =>
pV h1 (some v0) 26 2 (.int x2) fun h3 =>
pV h3 (some v0) 26 1 (va_rf none) fun h4 =>
pV h4 (some v0) 26 0 (va_rf v2) fun h5 =>
Q h5
def f_J41_init (E : Nat → Nat) (v0 : Nat) (v1 : Option Nat) (v2 : Option Nat) (h : hH) (Q : hH → Prop) : Prop :=
f_J40_init E v0 v1 v2 h (fun h1 =>
Q h1)
def f_J37_iterator (E : Nat → Nat) (v0 : Nat) (h : hH) (Q : Option Nat → hH → Prop) : Prop :=
nO h 26 [va_rf none, va_rf none, .int 0, va_rf none] fun q1 h2 =>
gR h2 (some v0) 25 0 fun x3 =>
gR h2 (some v0) 25 0 fun x4 =>
isT h2 x4 23 fun a7 => f_J24_getFirstEntry E a7 h2 (fun x6 h5 =>
f_J41_init E q1 x3 x6 h5 (fun h8 =>
Q (some q1) h8))
def f_J24_computeRedLevel (E : Nat → Nat) (v0 : Int32) (h : hH) (Q : Int32 → hH → Prop) : Prop :=
f_J20_numberOfLeadingZeros E (v0 + (1:Int32)) h (fun x2 h1 =>
Q ((31:Int32) - x2) h1)
def f_J24_successor_l42 (E : Nat → Nat) (Q : Option Nat → hH → Prop) (K64 : Option Nat → hH → Prop) : Nat → Option Nat → Option Nat → hH → Prop
  | 0, _, _, _ => False
  | n + 1, l1, l2, h => cnd (l1 = none) (K64 l1 h) (gR h l1 24 3 fun x1 =>
cnd (l2 = x1) (gR h l1 24 4 fun x2 =>
(f_J24_successor_l42 E Q K64 n) x2 l1 h) (K64 l1 h))
def f_J24_successor_l18 (E : Nat → Nat) (Q : Option Nat → hH → Prop) (K33 : Option Nat → hH → Prop) : Nat → Option Nat → hH → Prop
  | 0, _, _ => False
  | n + 1, l1, h => gR h l1 24 2 fun x3 =>
cnd (x3 = none) (K33 l1 h) (gR h l1 24 2 fun x4 =>
(f_J24_successor_l18 E Q K33 n) x4 h)
def f_J24_successor (E : Nat → Nat) (v0 : Option Nat) (h : hH) (Q : Option Nat → hH → Prop) : Prop :=
cnd (v0 = none) (Q none h) (gR h v0 24 3 fun x5 =>
cnd (x5 = none) (gR h v0 24 4 fun x6 =>
f_J24_successor_l42 E Q (fun l1 h => Q l1 h) 1000000 x6 v0 h) (gR h v0 24 3 fun x7 =>
f_J24_successor_l18 E Q (fun l1 h => Q l1 h) 1000000 x7 h))
def f_J40_nextEntry (E : Nat → Nat) (v0 : Nat) (h : hH) (Q : Option Nat → hH → Prop) : Prop :=
gR h (some v0) 26 0 fun x1 =>
cnd (x1 = none) (False) (gR h (some v0) 26 3 fun x2 =>
gI h x2 23 5 fun x3 =>
gI h (some v0) 26 2 fun x4 =>
cnd (x3 = x4) (f_J24_successor E x1 h (fun x6 h5 =>
pV h5 (some v0) 26 0 (va_rf x6) fun h7 =>
pV h7 (some v0) 26 1 (va_rf x1) fun h8 =>
Q x1 h8)) (False))
def f_J41_next_2 (E : Nat → Nat) (v0 : Nat) (h : hH) (Q : Option Nat → hH → Prop) : Prop :=
isT h (some v0) 26 fun a3 => f_J40_nextEntry E a3 h (fun x2 h1 =>
Q x2 h1)
def f_J41_next (E : Nat → Nat) (v0 : Nat) (h : hH) (Q : Option Nat → hH → Prop) : Prop :=
isT h (some v0) 26 fun a3 => f_J41_next_2 E a3 h (fun x2 h1 =>
Q x2 h1)
def f_J25_getKey (E : Nat → Nat) (v0 : Nat) (h : hH) (Q : Option Nat → hH → Prop) : Prop :=
gR h (some v0) 24 0 fun x1 =>
Q x1 h
def f_J25_getValue (E : Nat → Nat) (v0 : Nat) (h : hH) (Q : Option Nat → hH → Prop) : Prop :=
gR h (some v0) 24 1 fun x1 =>
Q x1 h
def f_J24_buildFromSorted_2 (E : Nat → Nat) : Nat → Nat → Int32 → Int32 → Int32 → Int32 → Option Nat → Option Nat → Option Nat → hH → (Option Nat → hH → Prop) → Prop
  | 0, _, _, _, _, _, _, _, _, _, _ => False
  | d + 1, v0, v1, v2, v3, v4, v5, v6, v7, h, Q => cnd (v2 ≤ v3) (cnd ((iUsh (v2 + v3) (1:Int32)) ≤ v2) (cnd (v5 = none) (False) (cnd (v7 = none) (isT h v5 26 fun a23 => f_J41_next E a23 h (fun x2 h1 =>
ckT h1 x2 24 (isT h1 x2 24 fun a22 => f_J25_getKey E a22 h1 (fun x4 h3 =>
isT h3 x2 24 fun a21 => f_J25_getValue E a21 h3 (fun x6 h5 =>
nO h5 24 [va_rf none, va_rf none, va_rf none, va_rf none, va_rf none, .int 0] fun q7 h8 =>
f_J25_init E q7 x4 x6 none h8 (fun h9 =>
cnd (v1 = v4) (pV h9 (some q7) 24 5 (.int (0:Int32)) fun h15 =>
cnd (v3 ≤ (iUsh (v2 + v3) (1:Int32))) (Q (some q7) h15) (isT h15 (some v0) 23 fun a18 => f_J24_buildFromSorted_2 E d a18 (v1 + (1:Int32)) ((iUsh (v2 + v3) (1:Int32)) + (1:Int32)) v3 v4 v5 v6 v7 h15 (fun x17 h16 =>
pV h16 (some q7) 24 3 (va_rf x17) fun h19 =>
pV h19 x17 24 4 (va_rf (some q7)) fun h20 =>
Q (some q7) h20))) (cnd (v3 ≤ (iUsh (v2 + v3) (1:Int32))) (Q (some q7) h9) (isT h9 (some v0) 23 fun a12 => f_J24_buildFromSorted_2 E d a12 (v1 + (1:Int32)) ((iUsh (v2 + v3) (1:Int32)) + (1:Int32)) v3 v4 v5 v6 v7 h9 (fun x11 h10 =>
pV h10 (some q7) 24 3 (va_rf x11) fun h13 =>
pV h13 x11 24 4 (va_rf (some q7)) fun h14 =>
Q (some q7) h14))))))))) (False))) (isT h (some v0) 23 fun a26 => f_J24_buildFromSorted_2 E d a26 (v1 + (1:Int32)) v2 ((iUsh (v2 + v3) (1:Int32)) - (1:Int32)) v4 v5 v6 v7 h (fun x25 h24 =>
cnd (v5 = none) (False) (cnd (v7 = none) (isT h24 v5 26 fun a63 => f_J41_next E a63 h24 (fun x28 h27 =>
ckT h27 x28 24 (isT h27 x28 24 fun a62 => f_J25_getKey E a62 h27 (fun x30 h29 =>
isT h29 x28 24 fun a61 => f_J25_getValue E a61 h29 (fun x32 h31 =>
nO h31 24 [va_rf none, va_rf none, va_rf none, va_rf none, va_rf none, .int 0] fun q33 h34 =>
f_J25_init E q33 x30 x32 none h34 (fun h35 =>
cnd (v1 = v4) (pV h35 (some q33) 24 5 (.int (0:Int32)) fun h48 =>
cnd (x25 = none) (cnd (v3 ≤ (iUsh (v2 + v3) (1:Int32))) (Q (some q33) h48) (isT h48 (some v0) 23 fun a51 => f_J24_buildFromSorted_2 E d a51 (v1 + (1:Int32)) ((iUsh (v2 + v3) (1:Int32)) + (1:Int32)) v3 v4 v5 v6 v7 h48 (fun x50 h49 =>
pV h49 (some q33) 24 3 (va_rf x50) fun h52 =>
pV h52 x50 24 4 (va_rf (some q33)) fun h53 =>
Q (some q33) h53))) (pV h48 (some q33) 24 2 (va_rf x25) fun h54 =>
pV h54 x25 24 4 (va_rf (some q33)) fun h55 =>
cnd (v3 ≤ (iUsh (v2 + v3) (1:Int32))) (Q (some q33) h55) (isT h55 (some v0) 23 fun a58 => f_J24_buildFromSorted_2 E d a58 (v1 + (1:Int32)) ((iUsh (v2 + v3) (1:Int32)) + (1:Int32)) v3 v4 v5 v6 v7 h55 (fun x57 h56 =>
pV h56 (some q33) 24 3 (va_rf x57) fun h59 =>
pV h59 x57 24 4 (va_rf (some q33)) fun h60 =>
Q (some q33) h60)))) (cnd (x25 = none) (cnd (v3 ≤ (iUsh (v2 + v3) (1:Int32))) (Q (some q33) h35) (isT h35 (some v0) 23 fun a38 => f_J24_buildFromSorted_2 E d a38 (v1 + (1:Int32)) ((iUsh (v2 + v3) (1:Int32)) + (1:Int32)) v3 v4 v5 v6 v7 h35 (fun x37 h36 =>
pV h36 (some q33) 24 3 (va_rf x37) fun h39 =>
pV h39 x37 24 4 (va_rf (some q33)) fun h40 =>
Q (some q33) h40))) (pV h35 (some q33) 24 2 (va_rf x25) fun h41 =>
pV h41 x25 24 4 (va_rf (some q33)) fun h42 =>
cnd (v3 ≤ (iUsh (v2 + v3) (1:Int32))) (Q (some q33) h42) (isT h42 (some v0) 23 fun a45 => f_J24_buildFromSorted_2 E d a45 (v1 + (1:Int32)) ((iUsh (v2 + v3) (1:Int32)) + (1:Int32)) v3 v4 v5 v6 v7 h42 (fun x44 h43 =>
pV h43 (some q33) 24 3 (va_rf x44) fun h46 =>
pV h46 x44 24 4 (va_rf (some q33)) fun h47 =>
Q (some q33) h47)))))))))) (False))))) (Q none h)
def f_J24_buildFromSorted (E : Nat → Nat) (v0 : Nat) (v1 : Int32) (v2 : Option Nat) (v3 : Option Nat) (v4 : Option Nat) (h : hH) (Q : hH → Prop) : Prop :=
pV h (some v0) 23 4 (.int v1) fun h1 =>
f_J24_computeRedLevel E v1 h1 (fun x3 h2 =>
isT h2 (some v0) 23 fun a6 => f_J24_buildFromSorted_2 E 7 a6 (0:Int32) (0:Int32) (v1 - (1:Int32)) x3 v2 v3 v4 h2 (fun x5 h4 =>
pV h4 (some v0) 23 3 (va_rf x5) fun h7 =>
Q h7))
def f_J24_putAll (E : Nat → Nat) (v0 : Nat) (v1 : Option Nat) (h : hH) (Q : hH → Prop) : Prop :=
isT h v1 23 fun a21 => f_J24_size E a21 h (fun x2 h1 =>
gI h1 (some v0) 23 4 fun x3 =>
cnd (x3 = (0:Int32)) (cnd (x2 = (0:Int32)) (False) (ioY h1 v1 23 fun x4 =>
cnd (x4 = (0:Int32)) (False) (gR h1 (some v0) 23 2 fun x5 =>
ckT h1 v1 23 (isT h1 v1 23 fun a20 => f_J24_comparator E a20 h1 (fun x7 h6 =>
f_J18_equals E x5 x7 h6 (fun x9 h8 =>
cnd (x9 = (0:Int32)) (False) (gI h8 (some v0) 23 5 fun x10 =>
pV h8 (some v0) 23 5 (.int (x10 + (1:Int32))) fun h11 =>
isT h11 v1 23 fun a19 => f_J24_entrySet E a19 h11 (fun x13 h12 =>
isT h12 x13 25 fun a18 => f_J37_iterator E a18 h12 (fun x15 h14 =>
isT h14 (some v0) 23 fun a17 => f_J24_buildFromSorted E a17 x2 x15 none none h14 (fun h16 =>
Q h16)))))))))) (False))
def f_J24_key (E : Nat → Nat) (v0 : Option Nat) (h : hH) (Q : Option Nat → hH → Prop) : Prop :=
cnd (v0 = none) (False) (gR h v0 24 0 fun x1 =>
Q x1 h)
def f_J24_firstKey (E : Nat → Nat) (v0 : Nat) (h : hH) (Q : Option Nat → hH → Prop) : Prop :=
isT h (some v0) 23 fun a3 => f_J24_getFirstEntry E a3 h (fun x2 h1 =>
f_J24_key E x2 h1 (fun x5 h4 =>
Q x5 h4))
def f_J40_hasNext (E : Nat → Nat) (v0 : Nat) (h : hH) (Q : Int32 → hH → Prop) : Prop :=
gR h (some v0) 26 0 fun x1 =>
cnd (x1 = none) (Q (0:Int32) h) (Q (1:Int32) h)
def f_J31_isNaN (E : Nat → Nat) (v0 : UInt32) (h : hH) (Q : Int32 → hH → Prop) : Prop :=
cnd ((Op.cmpValue (FP.fcmp v0 v0) .l) = (0:Int32)) (Q (0:Int32) h) (Q (1:Int32) h)
def f_J30_tableSizeFor (E : Nat → Nat) (v0 : Int32) (h : hH) (Q : Int32 → hH → Prop) : Prop :=
f_J20_numberOfLeadingZeros E (v0 - (1:Int32)) h (fun x2 h1 =>
cnd ((0:Int32) ≤ (iUsh (-1:Int32) x2)) (cnd ((iUsh (-1:Int32) x2) < (1073741824:Int32)) (Q ((iUsh (-1:Int32) x2) + (1:Int32)) h1) (Q (1073741824:Int32) h1)) (Q (1:Int32) h1))
def f_J30_init_2_j57 (E : Nat → Nat) (v0 : Nat) (Q : hH → Prop) (l2 : UInt32) (h : hH) : Prop :=
False
def f_J30_init_2_j44 (E : Nat → Nat) (v0 : Nat) (Q : hH → Prop) (l1 : Int32) (l2 : UInt32) (h : hH) : Prop :=
cnd ((Op.cmpValue (FP.fcmp l2 (0:UInt32)) .g) ≤ (0:Int32)) (f_J30_init_2_j57 E v0 Q l2 h) (f_J31_isNaN E l2 h (fun x2 h1 =>
cnd (x2 = (0:Int32)) (pV h1 (some v0) 27 7 (.float l2) fun h3 =>
f_J30_tableSizeFor E l1 h3 (fun x5 h4 =>
pV h4 (some v0) 27 6 (.int x5) fun h6 =>
Q h6)) (f_J30_init_2_j57 E v0 Q l2 h1)))
def f_J30_init_2 (E : Nat → Nat) (v0 : Nat) (v1 : Int32) (v2 : UInt32) (h : hH) (Q : hH → Prop) : Prop :=
f_J23_init E v0 h (fun h7 =>
cnd ((0:Int32) ≤ v1) (cnd (v1 ≤ (1073741824:Int32)) (f_J30_init_2_j44 E v0 Q v1 v2 h7) (f_J30_init_2_j44 E v0 Q (1073741824:Int32) v2 h7)) (False))
def f_J30_init (E : Nat → Nat) (v0 : Nat) (v1 : Int32) (h : hH) (Q : hH → Prop) : Prop :=
f_J30_init_2 E v0 v1 ((1061158912 : UInt32):UInt32) h (fun h1 =>
Q h1)
def f_J30_hash (E : Nat → Nat) (v0 : Option Nat) (h : hH) (Q : Int32 → hH → Prop) : Prop :=
cnd (v0 = none) (Q (0:Int32) h) (isT h v0 12 fun a3 => f_X15_hashCode E a3 h (fun x2 h1 =>
Q (x2 ^^^ (iUsh x2 (16:Int32))) h1))
def f_J30_getNode_j137 (E : Nat → Nat) (v0 : Nat) (Q : Option Nat → hH → Prop) (K99 : Option Nat → Option Nat → Int32 → hH → Prop) (K148 : hH → Prop) (l1 : Option Nat) (l4 : Option Nat) (l6 : Int32) (h : hH) : Prop :=
gR h l4 28 3 fun x1 =>
cnd (x1 = none) (K148 h) (K99 l1 x1 l6 h)
def f_J30_getNode_l99 (E : Nat → Nat) (v0 : Nat) (Q : Option Nat → hH → Prop) (K134 : Option Nat → hH → Prop) (K148 : hH → Prop) : Nat → Option Nat → Option Nat → Int32 → hH → Prop
  | 0, _, _, _, _ => False
  | n + 1, l1, l4, l6, h => gI h l4 28 0 fun x2 =>
cnd (x2 = l6) (gR h l4 28 1 fun x3 =>
cnd (x3 = l1) (K134 l4 h) (cnd (l1 = none) (f_J30_getNode_j137 E v0 Q (f_J30_getNode_l99 E v0 Q K134 K148 n) K148 l1 l4 l6 h) (isT h l1 12 fun a6 => f_X15_equals E a6 x3 h (fun x5 h4 =>
cnd (x5 = (0:Int32)) (f_J30_getNode_j137 E v0 Q (f_J30_getNode_l99 E v0 Q K134 K148 n) K148 l1 l4 l6 h4) (K134 l4 h4))))) (f_J30_getNode_j137 E v0 Q (f_J30_getNode_l99 E v0 Q K134 K148 n) K148 l1 l4 l6 h)
def f_J30_getNode_j148 (E : Nat → Nat) (v0 : Nat) (Q : Option Nat → hH → Prop) (h : hH) : Prop :=
Q none h
def f_J30_getNode_j71 (E : Nat → Nat) (v0 : Nat) (Q : Option Nat → hH → Prop) (l1 : Option Nat) (l3 : Option Nat) (l6 : Int32) (h : hH) : Prop :=
gR h l3 28 3 fun x7 =>
cnd (x7 = none) (f_J30_getNode_j148 E v0 Q h) (ioN h l3 28 fun x8 =>
cnd (x8 = (0:Int32)) (f_J30_getNode_l99 E v0 Q (fun l4 h => Q l4 h) (fun h => f_J30_getNode_j148 E v0 Q h) 1000000 l1 x7 l6 h) (False))
def f_J30_getNode (E : Nat → Nat) (v0 : Nat) (v1 : Option Nat) (h : hH) (Q : Option Nat → hH → Prop) : Prop :=
gR h (some v0) 27 2 fun x9 =>
cnd (x9 = none) (f_J30_getNode_j148 E v0 Q h) (aLn h x9 6 fun x10 =>
cnd (x10 ≤ (0:Int32)) (f_J30_getNode_j148 E v0 Q h) (f_J30_hash E v1 h (fun x12 h11 =>
ldQ h11 x9 6 ((x10 - (1:Int32)) &&& x12) fun x13 =>
cnd (x13 = none) (f_J30_getNode_j148 E v0 Q h11) (gI h11 x13 28 0 fun x14 =>
cnd (x14 = x12) (gR h11 x13 28 1 fun x15 =>
cnd (x15 = v1) (Q x13 h11) (cnd (v1 = none) (f_J30_getNode_j71 E v0 Q v1 x13 x12 h11) (isT h11 v1 12 fun a18 => f_X15_equals E a18 x15 h11 (fun x17 h16 =>
cnd (x17 = (0:Int32)) (f_J30_getNode_j71 E v0 Q v1 x13 x12 h16) (Q x13 h16))))) (f_J30_getNode_j71 E v0 Q v1 x13 x12 h11)))))
def f_J30_get (E : Nat → Nat) (v0 : Nat) (v1 : Option Nat) (h : hH) (Q : Option Nat → hH → Prop) : Prop :=
isT h (some v0) 27 fun a3 => f_J30_getNode E a3 v1 h (fun x2 h1 =>
cnd (x2 = none) (Q none h1) (gR h1 x2 28 2 fun x4 =>
Q x4 h1))
def f_J30_resize_j125 (E : Nat → Nat) (v0 : Nat) (Q : Option Nat → hH → Prop) (l1 : Option Nat) (l4 : Int32) (l5 : Int32) (h : hH) : Prop :=
pV h (some v0) 27 6 (.int l5) fun h1 =>
nAq h1 6 l4 64 fun q2 h3 =>
pV h3 (some v0) 27 2 (va_rf (some q2)) fun h4 =>
cnd (l1 = none) (Q (some q2) h4) (False)
def f_J30_resize_j123 (E : Nat → Nat) (v0 : Nat) (Q : Option Nat → hH → Prop) (s0 : Int32) (l1 : Option Nat) (l4 : Int32) (h : hH) : Prop :=
f_J30_resize_j125 E v0 Q l1 l4 s0 h
def f_J30_resize_j121 (E : Nat → Nat) (v0 : Nat) (Q : Option Nat → hH → Prop) (l1 : Option Nat) (l4 : Int32) (h : hH) : Prop :=
f_J30_resize_j123 E v0 Q (2147483647:Int32) l1 l4 h
def f_J30_resize (E : Nat → Nat) (v0 : Nat) (h : hH) (Q : Option Nat → hH → Prop) : Prop :=
gR h (some v0) 27 2 fun x5 =>
cnd (x5 = none) (gI h (some v0) 27 6 fun x6 =>
cnd ((0:Int32) ≤ (0:Int32)) (cnd (x6 ≤ (0:Int32)) (False) (cnd ((0:Int32) = (0:Int32)) (gF h (some v0) 27 7 fun x7 =>
vf_n32 (FP.fmul (FP.i2f x6) x7) ∧ (cnd ((1073741824:Int32) ≤ x6) (f_J30_resize_j121 E v0 Q x5 x6 h) (cnd ((0:Int32) ≤ (Op.cmpValue (FP.fcmp (FP.fmul (FP.i2f x6) x7) ((1317011456 : UInt32):UInt32)) .g)) (f_J30_resize_j121 E v0 Q x5 x6 h) (f_J30_resize_j123 E v0 Q (FP.f2i (FP.fmul (FP.i2f x6) x7)) x5 x6 h)))) (f_J30_resize_j125 E v0 Q x5 x6 (0:Int32) h))) (False)) (False)
def f_J32_init (E : Nat → Nat) (v0 : Nat) (v1 : Int32) (v2 : Option Nat) (v3 : Option Nat) (v4 : Option Nat) (h : hH) (Q : hH → Prop) : Prop :=
pV h (some v0) 28 0 (.int v1) fun h1 =>
pV h1 (some v0) 28 1 (va_rf v2) fun h2 =>
pV h2 (some v0) 28 2 (va_rf v3) fun h3 =>
pV h3 (some v0) 28 3 (va_rf v4) fun h4 =>
Q h4
def f_J30_newNode (E : Nat → Nat) (v0 : Nat) (v1 : Int32) (v2 : Option Nat) (v3 : Option Nat) (v4 : Option Nat) (h : hH) (Q : Option Nat → hH → Prop) : Prop :=
nO h 28 [.int 0, va_rf none, va_rf none, va_rf none] fun q1 h2 =>
f_J32_init E q1 v1 v2 v3 v4 h2 (fun h3 =>
Q (some q1) h3)
def f_J30_afterNodeAccess (E : Nat → Nat) (v0 : Nat) (v1 : Option Nat) (h : hH) (Q : hH → Prop) : Prop :=
Q h
def f_J30_afterNodeInsertion (E : Nat → Nat) (v0 : Nat) (v1 : Int32) (h : hH) (Q : hH → Prop) : Prop :=
Q h
def f_J30_putVal_j212 (E : Nat → Nat) (v0 : Nat) (Q : Option Nat → hH → Prop) (K134 : Int32 → Option Nat → Option Nat → Int32 → Int32 → Option Nat → Int32 → hH → Prop) (l1 : Int32) (l2 : Option Nat) (l3 : Option Nat) (l4 : Int32) (l5 : Int32) (l10 : Option Nat) (l12 : Int32) (h : hH) : Prop :=
K134 l1 l2 l3 l4 l5 l10 (l12 + (1:Int32)) h
def f_J30_putVal_l134 (E : Nat → Nat) (v0 : Nat) (Q : Option Nat → hH → Prop) (K145 : Int32 → Option Nat → Option Nat → Int32 → Int32 → Option Nat → Option Nat → Int32 → hH → Prop) (K209 : Option Nat → Int32 → Int32 → Option Nat → hH → Prop) (K222 : Option Nat → Int32 → Int32 → Option Nat → hH → Prop) : Nat → Int32 → Option Nat → Option Nat → Int32 → Int32 → Option Nat → Int32 → hH → Prop
  | 0, _, _, _, _, _, _, _, _ => False
  | n + 1, l1, l2, l3, l4, l5, l7, l12, h => gR h l7 28 3 fun x1 =>
cnd (x1 = none) (K145 l1 l2 l3 l4 l5 l7 x1 l12 h) (gI h x1 28 0 fun x2 =>
cnd (x2 = l1) (gR h x1 28 1 fun x3 =>
cnd (x3 = l2) (K222 l3 l4 l5 x1 h) (cnd (l2 = none) (f_J30_putVal_j212 E v0 Q (f_J30_putVal_l134 E v0 Q K145 K209 K222 n) l1 l2 l3 l4 l5 x1 l12 h) (isT h l2 12 fun a6 => f_X15_equals E a6 x3 h (fun x5 h4 =>
cnd (x5 = (0:Int32)) (f_J30_putVal_j212 E v0 Q (f_J30_putVal_l134 E v0 Q K145 K209 K222 n) l1 l2 l3 l4 l5 x1 l12 h4) (K209 l3 l4 l5 x1 h4))))) (f_J30_putVal_j212 E v0 Q (f_J30_putVal_l134 E v0 Q K145 K209 K222 n) l1 l2 l3 l4 l5 x1 l12 h))
def f_J30_putVal_j292 (E : Nat → Nat) (v0 : Nat) (Q : Option Nat → hH → Prop) (l5 : Int32) (h : hH) : Prop :=
isT h (some v0) 27 fun a8 => f_J30_afterNodeInsertion E a8 l5 h (fun h7 =>
Q none h7)
def f_J30_putVal_j259 (E : Nat → Nat) (v0 : Nat) (Q : Option Nat → hH → Prop) (l5 : Int32) (h : hH) : Prop :=
gI h (some v0) 27 5 fun x9 =>
pV h (some v0) 27 5 (.int (x9 + (1:Int32))) fun h10 =>
gI h10 (some v0) 27 4 fun x11 =>
pV h10 (some v0) 27 4 (.int (x11 + (1:Int32))) fun h12 =>
gI h12 (some v0) 27 6 fun x13 =>
cnd ((x11 + (1:Int32)) ≤ x13) (f_J30_putVal_j292 E v0 Q l5 h12) (isT h12 (some v0) 27 fun a16 => f_J30_resize E a16 h12 (fun x15 h14 =>
f_J30_putVal_j292 E v0 Q l5 h14))
def f_J30_putVal_j250 (E : Nat → Nat) (v0 : Nat) (Q : Option Nat → hH → Prop) (l10 : Option Nat) (l12 : Option Nat) (h : hH) : Prop :=
isT h (some v0) 27 fun a18 => f_J30_afterNodeAccess E a18 l10 h (fun h17 =>
Q l12 h17)
def f_J30_putVal_j244 (E : Nat → Nat) (v0 : Nat) (Q : Option Nat → hH → Prop) (l3 : Option Nat) (l10 : Option Nat) (l12 : Option Nat) (h : hH) : Prop :=
pV h l10 28 2 (va_rf l3) fun h19 =>
f_J30_putVal_j250 E v0 Q l10 l12 h19
def f_J30_putVal_j222 (E : Nat → Nat) (v0 : Nat) (Q : Option Nat → hH → Prop) (l3 : Option Nat) (l4 : Int32) (l5 : Int32) (l10 : Option Nat) (h : hH) : Prop :=
cnd (l10 = none) (f_J30_putVal_j259 E v0 Q l5 h) (gR h l10 28 2 fun x20 =>
cnd (l4 = (0:Int32)) (f_J30_putVal_j244 E v0 Q l3 l10 x20 h) (cnd (x20 = none) (f_J30_putVal_j244 E v0 Q l3 l10 x20 h) (f_J30_putVal_j250 E v0 Q l10 x20 h)))
def f_J30_putVal_j104 (E : Nat → Nat) (v0 : Nat) (Q : Option Nat → hH → Prop) (l1 : Int32) (l2 : Option Nat) (l3 : Option Nat) (l4 : Int32) (l5 : Int32) (l7 : Option Nat) (h : hH) : Prop :=
ioN h l7 28 fun x21 =>
cnd (x21 = (0:Int32)) (f_J30_putVal_l134 E v0 Q (fun l1 l2 l3 l4 l5 l7 l10 l12 h => isT h (some v0) 27 fun a24 => f_J30_newNode E a24 l1 l2 l3 none h (fun x23 h22 =>
pV h22 l7 28 3 (va_rf x23) fun h25 =>
cnd (l12 < (7:Int32)) (f_J30_putVal_j222 E v0 Q l3 l4 l5 l10 h25) (False))) (fun l3 l4 l5 l10 h => f_J30_putVal_j222 E v0 Q l3 l4 l5 l10 h) (fun l3 l4 l5 l10 h => f_J30_putVal_j222 E v0 Q l3 l4 l5 l10 h) 8 l1 l2 l3 l4 l5 l7 (0:Int32) h) (False)
def f_J30_putVal_j97 (E : Nat → Nat) (v0 : Nat) (Q : Option Nat → hH → Prop) (l3 : Option Nat) (l4 : Int32) (l5 : Int32) (l7 : Option Nat) (h : hH) : Prop :=
f_J30_putVal_j222 E v0 Q l3 l4 l5 l7 h
def f_J30_putVal_j29 (E : Nat → Nat) (v0 : Nat) (Q : Option Nat → hH → Prop) (l1 : Int32) (l2 : Option Nat) (l3 : Option Nat) (l4 : Int32) (l5 : Int32) (l6 : Option Nat) (l8 : Int32) (h : hH) : Prop :=
ldQ h l6 6 ((l8 - (1:Int32)) &&& l1) fun x26 =>
cnd (x26 = none) (isT h (some v0) 27 fun a34 => f_J30_newNode E a34 l1 l2 l3 none h (fun x33 h32 =>
stQ h32 l6 6 ((l8 - (1:Int32)) &&& l1) x33 fun h35 =>
f_J30_putVal_j259 E v0 Q l5 h35)) (gI h x26 28 0 fun x27 =>
cnd (x27 = l1) (gR h x26 28 1 fun x28 =>
cnd (x28 = l2) (f_J30_putVal_j97 E v0 Q l3 l4 l5 x26 h) (cnd (l2 = none) (f_J30_putVal_j104 E v0 Q l1 l2 l3 l4 l5 x26 h) (isT h l2 12 fun a31 => f_X15_equals E a31 x28 h (fun x30 h29 =>
cnd (x30 = (0:Int32)) (f_J30_putVal_j104 E v0 Q l1 l2 l3 l4 l5 x26 h29) (f_J30_putVal_j97 E v0 Q l3 l4 l5 x26 h29))))) (f_J30_putVal_j104 E v0 Q l1 l2 l3 l4 l5 x26 h))
def f_J30_putVal_j19 (E : Nat → Nat) (v0 : Nat) (Q : Option Nat → hH → Prop) (l1 : Int32) (l2 : Option Nat) (l3 : Option Nat) (l4 : Int32) (l5 : Int32) (h : hH) : Prop :=
isT h (some v0) 27 fun a38 => f_J30_resize E a38 h (fun x37 h36 =>
aLn h36 x37 6 fun x39 =>
f_J30_putVal_j29 E v0 Q l1 l2 l3 l4 l5 x37 x39 h36)
def f_J30_putVal (E : Nat → Nat) (v0 : Nat) (v1 : Int32) (v2 : Option Nat) (v3 : Option Nat) (v4 : Int32) (v5 : Int32) (h : hH) (Q : Option Nat → hH → Prop) : Prop :=
gR h (some v0) 27 2 fun x40 =>
cnd (x40 = none) (f_J30_putVal_j19 E v0 Q v1 v2 v3 v4 v5 h) (aLn h x40 6 fun x41 =>
cnd (x41 = (0:Int32)) (f_J30_putVal_j19 E v0 Q v1 v2 v3 v4 v5 h) (f_J30_putVal_j29 E v0 Q v1 v2 v3 v4 v5 x40 x41 h))
def f_J30_put (E : Nat → Nat) (v0 : Nat) (v1 : Option Nat) (v2 : Option Nat) (h : hH) (Q : Option Nat → hH → Prop) : Prop :=
f_J30_hash E v1 h (fun x2 h1 =>
isT h1 (some v0) 27 fun a5 => f_J30_putVal E a5 x2 v1 v2 (0:Int32) (1:Int32) h1 (fun x4 h3 =>
Q x4 h3))
def f_J6_init (E : Nat → Nat) (v0 : Nat) (v1 : Int32) (h : hH) (Q : hH → Prop) : Prop :=
cnd ((1:Int32) = (0:Int32)) (False) (nA h 1 v1 16 fun q1 h2 =>
pV h2 (some v0) 20 0 (va_rf (some q1)) fun h3 =>
pV h3 (some v0) 20 1 (.int (0:Int32)) fun h4 =>
Q h4)
def f_J6_newCapacity (E : Nat → Nat) (v0 : Nat) (v1 : Int32) (h : hH) (Q : Int32 → hH → Prop) : Prop :=
gR h (some v0) 20 0 fun x1 =>
aLn h x1 1 fun x2 =>
gI h (some v0) 20 1 fun x3 =>
gI h (some v0) 20 1 fun x4 =>
f_J11_newLength E x2 ((v1 <<< (x3 &&& 31)) - x2) (x2 + ((2:Int32) <<< (x4 &&& 31))) h (fun x6 h5 =>
cnd (x6 = (2147483647:Int32)) (False) (gI h5 (some v0) 20 1 fun x7 =>
Q (x6 >>> (x7 &&& 31)) h5))
def f_J6_isLatin1 (E : Nat → Nat) (v0 : Nat) (h : hH) (Q : Int32 → hH → Prop) : Prop :=
cnd ((1:Int32) = (0:Int32)) (Q (0:Int32) h) (gI h (some v0) 20 1 fun x1 =>
cnd (x1 = (0:Int32)) (Q (1:Int32) h) (Q (0:Int32) h))
def f_J6_getValue (E : Nat → Nat) (v0 : Nat) (h : hH) (Q : Option Nat → hH → Prop) : Prop :=
gR h (some v0) 20 0 fun x1 =>
Q x1 h
def f_J6_length (E : Nat → Nat) (v0 : Nat) (h : hH) (Q : Int32 → hH → Prop) : Prop :=
gI h (some v0) 20 3 fun x1 =>
Q x1 h
def f_J8_checkIndex (E : Nat → Nat) (v0 : Int32) (v1 : Int32) (h : hH) (Q : hH → Prop) : Prop :=
∀ x1 : Option Nat,
f_J15_checkIndex E v0 v1 x1 h (fun x3 h2 =>
Q h2)
def f_J6_charAt (E : Nat → Nat) (v0 : Nat) (v1 : Int32) (h : hH) (Q : Int32 → hH → Prop) : Prop :=
gI h (some v0) 20 1 fun x1 =>
gR h (some v0) 20 0 fun x2 =>
gI h (some v0) 20 3 fun x3 =>
aLn h x2 1 fun x4 =>
f_J8_checkIndex E v1 (iMin x3 (x4 >>> (x1 &&& 31))) h (fun h5 =>
cnd (x1 = (0:Int32)) (ldI h5 x2 1 v1 fun x6 =>
narrow .char (.int (i2c_ (x6 &&& (255:Int32)))) = .int (i2c_ (x6 &&& (255:Int32))) ∧ Q (i2c_ (x6 &&& (255:Int32))) h5) (False))
def f_J7_init (E : Nat → Nat) (v0 : Nat) (h : hH) (Q : hH → Prop) : Prop :=
f_J6_init E v0 (16:Int32) h (fun h1 =>
Q h1)
def f_J7_length (E : Nat → Nat) (v0 : Nat) (h : hH) (Q : Int32 → hH → Prop) : Prop :=
isT h (some v0) 20 fun a3 => f_J6_length E a3 h (fun x2 h1 =>
Q x2 h1)
def f_J7_charAt (E : Nat → Nat) (v0 : Nat) (v1 : Int32) (h : hH) (Q : Int32 → hH → Prop) : Prop :=
isT h (some v0) 20 fun a3 => f_J6_charAt E a3 v1 h (fun x2 h1 =>
narrow .char (.int x2) = .int x2 ∧ Q x2 h1)
def f_J8_isLatin1 (E : Nat → Nat) (v0 : Nat) (h : hH) (Q : Int32 → hH → Prop) : Prop :=
cnd ((1:Int32) = (0:Int32)) (Q (0:Int32) h) (gI h (some v0) 21 1 fun x1 =>
cnd (x1 = (0:Int32)) (Q (1:Int32) h) (Q (0:Int32) h))
def f_J11_signedHashCode_l8 (E : Nat → Nat) (Q : Int32 → hH → Prop) (K35 : Int32 → hH → Prop) : Nat → Int32 → Option Nat → Int32 → Int32 → hH → Prop
  | 0, _, _, _, _, _ => False
  | n + 1, l0, l1, l4, l5, h => cnd (l4 ≤ l5) (K35 l0 h) (ldI h l1 1 l5 fun x1 =>
(f_J11_signedHashCode_l8 E Q K35 n) (((31:Int32) * l0) + (x1 &&& (255:Int32))) l1 l4 (l5 + (1:Int32)) h)
def f_J11_signedHashCode (E : Nat → Nat) (v0 : Int32) (v1 : Option Nat) (v2 : Int32) (v3 : Int32) (h : hH) (Q : Int32 → hH → Prop) : Prop :=
f_J11_signedHashCode_l8 E Q (fun l0 h => Q l0 h) 1000000 v0 v1 (v2 + v3) v2 h
def f_J11_vectorizedHashCode (E : Nat → Nat) (v0 : Option Nat) (v1 : Int32) (v2 : Int32) (v3 : Int32) (v4 : Int32) (h : hH) (Q : Int32 → hH → Prop) : Prop :=
cnd (v4 = (4:Int32)) (ckA h v0 1 (f_J11_signedHashCode E v3 v0 v1 v2 h (fun x2 h1 =>
Q x2 h1))) <| cnd (v4 = (5:Int32)) (False) <| cnd (v4 = (6:Int32)) (False) <| cnd (v4 = (7:Int32)) (False) <| cnd (v4 = (8:Int32)) (False) <| cnd (v4 = (9:Int32)) (False) <| cnd (v4 = (10:Int32)) (False) <| False
def f_J14_hashCode (E : Nat → Nat) (v0 : Option Nat) (h : hH) (Q : Int32 → hH → Prop) : Prop :=
aLn h v0 1 fun x1 =>
cnd (x1 = (0:Int32)) (Q (0:Int32) h) <| cnd (x1 = (1:Int32)) (ldI h v0 1 (0:Int32) fun x2 =>
Q (x2 &&& (255:Int32)) h) <| aLn h v0 1 fun x3 =>
f_J11_vectorizedHashCode E v0 (0:Int32) x3 (0:Int32) (4:Int32) h (fun x5 h4 =>
Q x5 h4)
def f_J8_hashCode (E : Nat → Nat) (v0 : Nat) (h : hH) (Q : Int32 → hH → Prop) : Prop :=
gI h (some v0) 21 2 fun x1 =>
cnd (x1 = (0:Int32)) (gI h (some v0) 21 3 fun x2 =>
cnd (x2 = (0:Int32)) (isT h (some v0) 21 fun a5 => f_J8_isLatin1 E a5 h (fun x4 h3 =>
cnd (x4 = (0:Int32)) (False) (gR h3 (some v0) 21 0 fun x6 =>
f_J14_hashCode E x6 h3 (fun x8 h7 =>
cnd (x8 = (0:Int32)) (pV h7 (some v0) 21 3 (.int (1:Int32)) fun h10 =>
Q x8 h10) (pV h7 (some v0) 21 2 (.int x8) fun h9 =>
Q x8 h9))))) (Q x1 h)) (Q x1 h)
def f_J14_equals_l9 (E : Nat → Nat) (Q : Int32 → hH → Prop) (K24 : hH → Prop) (K32 : hH → Prop) : Nat → Option Nat → Option Nat → Int32 → hH → Prop
  | 0, _, _, _, _ => False
  | n + 1, l0, l1, l2, h => aLn h l0 1 fun x1 =>
cnd (x1 ≤ l2) (K32 h) (ldI h l0 1 l2 fun x2 =>
ldI h l1 1 l2 fun x3 =>
cnd (x2 = x3) ((f_J14_equals_l9 E Q K24 K32 n) l0 l1 (l2 + (1:Int32)) h) (K24 h))
def f_J14_equals (E : Nat → Nat) (v0 : Option Nat) (v1 : Option Nat) (h : hH) (Q : Int32 → hH → Prop) : Prop :=
aLn h v0 1 fun x4 =>
aLn h v1 1 fun x5 =>
cnd (x4 = x5) (f_J14_equals_l9 E Q (fun h => Q (0:Int32) h) (fun h => Q (1:Int32) h) 1000000 v0 v1 (0:Int32) h) (Q (0:Int32) h)
def f_J8_equals_j36 (E : Nat → Nat) (v0 : Nat) (Q : Int32 → hH → Prop) (l2 : Option Nat) (h : hH) : Prop :=
gR h (some v0) 21 0 fun x1 =>
gR h l2 21 0 fun x2 =>
f_J14_equals E x1 x2 h (fun x4 h3 =>
cnd (x4 = (0:Int32)) (Q (0:Int32) h3) (Q (1:Int32) h3))
def f_J8_equals (E : Nat → Nat) (v0 : Nat) (v1 : Option Nat) (h : hH) (Q : Int32 → hH → Prop) : Prop :=
cnd ((some v0) = v1) (Q (1:Int32) h) (ioY h v1 21 fun x5 =>
cnd (x5 = (0:Int32)) (Q (0:Int32) h) (ckT h v1 21 (cnd ((1:Int32) = (0:Int32)) (f_J8_equals_j36 E v0 Q v1 h) (gI h (some v0) 21 1 fun x6 =>
gI h v1 21 1 fun x7 =>
cnd (x6 = x7) (f_J8_equals_j36 E v0 Q v1 h) (Q (0:Int32) h)))))
def f_J8_coder (E : Nat → Nat) (v0 : Nat) (h : hH) (Q : Int32 → hH → Prop) : Prop :=
cnd ((1:Int32) = (0:Int32)) (Q (1:Int32) h) (gI h (some v0) 21 1 fun x1 =>
narrow .byte (.int x1) = .int x1 ∧ Q x1 h)
def f_J8_length (E : Nat → Nat) (v0 : Nat) (h : hH) (Q : Int32 → hH → Prop) : Prop :=
gR h (some v0) 21 0 fun x1 =>
aLn h x1 1 fun x2 =>
isT h (some v0) 21 fun a5 => f_J8_coder E a5 h (fun x4 h3 =>
Q (x2 >>> (x4 &&& 31)) h3)
def f_J14_charAt (E : Nat → Nat) (v0 : Option Nat) (v1 : Int32) (h : hH) (Q : Int32 → hH → Prop) : Prop :=
aLn h v0 1 fun x1 =>
f_J8_checkIndex E v1 x1 h (fun h2 =>
ldI h2 v0 1 v1 fun x3 =>
narrow .char (.int (i2c_ (x3 &&& (255:Int32)))) = .int (i2c_ (x3 &&& (255:Int32))) ∧ Q (i2c_ (x3 &&& (255:Int32))) h2)
def f_J8_charAt (E : Nat → Nat) (v0 : Nat) (v1 : Int32) (h : hH) (Q : Int32 → hH → Prop) : Prop :=
isT h (some v0) 21 fun a3 => f_J8_isLatin1 E a3 h (fun x2 h1 =>
cnd (x2 = (0:Int32)) (gR h1 (some v0) 21 0 fun x4 =>
False) (gR h1 (some v0) 21 0 fun x5 =>
f_J14_charAt E x5 v1 h1 (fun x7 h6 =>
narrow .char (.int x7) = .int x7 ∧ Q x7 h6)))
def f_J8_checkOffset (E : Nat → Nat) (v0 : Int32) (v1 : Int32) (h : hH) (Q : hH → Prop) : Prop :=
∀ x1 : Option Nat,
False
def f_J14_canEncode (E : Nat → Nat) (v0 : Int32) (h : hH) (Q : Int32 → hH → Prop) : Prop :=
cnd ((255:Int32) < v0) (Q (0:Int32) h) (Q (1:Int32) h)
def f_J20_stringSize_l16 (E : Nat → Nat) (Q : Int32 → hH → Prop) (K27 : Int32 → Int32 → hH → Prop) (K42 : Int32 → hH → Prop) : Nat → Int32 → Int32 → Int32 → Int32 → hH → Prop
  | 0, _, _, _, _, _ => False
  | n + 1, l0, l1, l2, l3, h => cnd ((10:Int32) ≤ l3) (K42 l1 h) (cnd (l0 ≤ l2) ((f_J20_stringSize_l16 E Q K27 K42 n) l0 l1 ((10:Int32) * l2) (l3 + (1:Int32)) h) (K27 l1 l3 h))
def f_J20_stringSize (E : Nat → Nat) (v0 : Int32) (h : hH) (Q : Int32 → hH → Prop) : Prop :=
cnd (v0 < (0:Int32)) (f_J20_stringSize_l16 E Q (fun l1 l3 h => Q (l3 + l1) h) (fun l1 h => Q ((10:Int32) + l1) h) 1000000 v0 (1:Int32) (-10:Int32) (1:Int32) h) (f_J20_stringSize_l16 E Q (fun l1 l3 h => Q (l3 + l1) h) (fun l1 h => Q ((10:Int32) + l1) h) 1000000 (-v0) (0:Int32) (-10:Int32) (1:Int32) h)
def f_J20_getChars_l22 (E : Nat → Nat) (Q : Int32 → hH → Prop) (K72 : Int32 → Option Nat → Int32 → Int32 → hH → Prop) : Nat → Int32 → Option Nat → Int32 → Int32 → hH → Prop
  | 0, _, _, _, _, _ => False
  | n + 1, l0, l2, l5, l6, h => cnd ((-100:Int32) < l0) (K72 l0 l2 l5 l6 h) (ldI h (some (E 7)) 1 (((l0 / (100:Int32)) * (100:Int32)) - l0) fun x1 =>
stI h l2 1 (l5 + (-1:Int32)) x1 fun h2 =>
ldI h2 (some (E 8)) 1 (((l0 / (100:Int32)) * (100:Int32)) - l0) fun x3 =>
stI h2 l2 1 ((l5 + (-1:Int32)) + (-1:Int32)) x3 fun h4 =>
(f_J20_getChars_l22 E Q K72 n) (l0 / (100:Int32)) l2 ((l5 + (-1:Int32)) + (-1:Int32)) l6 h4)
def f_J20_getChars_j104 (E : Nat → Nat) (Q : Int32 → hH → Prop) (l2 : Option Nat) (l5 : Int32) (l6 : Int32) (h : hH) : Prop :=
cnd (l6 = (0:Int32)) (Q l5 h) (stI h l2 1 (l5 + (-1:Int32)) (45:Int32) fun h5 =>
Q (l5 + (-1:Int32)) h5)
def f_J20_getChars_j12 (E : Nat → Nat) (Q : Int32 → hH → Prop) (s0 : Int32) (l0 : Int32) (l2 : Option Nat) (l5 : Int32) (h : hH) : Prop :=
cnd (s0 = (0:Int32)) (f_J20_getChars_l22 E Q (fun l0 l2 l5 l6 h => ldI h (some (E 7)) 1 (-l0) fun x10 =>
stI h l2 1 (l5 + (-1:Int32)) x10 fun h11 =>
cnd ((-9:Int32) ≤ l0) (f_J20_getChars_j104 E Q l2 (l5 + (-1:Int32)) l6 h11) (ldI h11 (some (E 8)) 1 (-l0) fun x12 =>
stI h11 l2 1 ((l5 + (-1:Int32)) + (-1:Int32)) x12 fun h13 =>
f_J20_getChars_j104 E Q l2 ((l5 + (-1:Int32)) + (-1:Int32)) l6 h13)) 1000000 (-l0) l2 l5 s0 h) (f_J20_getChars_l22 E Q (fun l0 l2 l5 l6 h => ldI h (some (E 7)) 1 (-l0) fun x6 =>
stI h l2 1 (l5 + (-1:Int32)) x6 fun h7 =>
cnd ((-9:Int32) ≤ l0) (f_J20_getChars_j104 E Q l2 (l5 + (-1:Int32)) l6 h7) (ldI h7 (some (E 8)) 1 (-l0) fun x8 =>
stI h7 l2 1 ((l5 + (-1:Int32)) + (-1:Int32)) x8 fun h9 =>
f_J20_getChars_j104 E Q l2 ((l5 + (-1:Int32)) + (-1:Int32)) l6 h9)) 1000000 l0 l2 l5 s0 h)
def f_J20_getChars (E : Nat → Nat) (v0 : Int32) (v1 : Int32) (v2 : Option Nat) (h : hH) (Q : Int32 → hH → Prop) : Prop :=
cnd ((0:Int32) ≤ v0) (f_J20_getChars_j12 E Q (0:Int32) v0 v2 v1 h) (f_J20_getChars_j12 E Q (1:Int32) v0 v2 v1 h)
def f_J13_copyOfD (E : Nat → Nat) (B W : Nat) (v0 : Option Nat) (v1 : Int32) (h : hH) (Q : Option Nat → hH → Prop) : Prop :=
aLn h v0 1 fun x1 =>
cnd (v1 = x1) (False) (∃ n2 : Nat, (1 ≤ B ∧ n2 ≤ W ∧ n2 ≤ 100000) ∧ (nA h 1 v1 n2 fun q4 h5 =>
aLn h5 v0 1 fun x6 =>
cpI h5 v0 (0:Int32) (some q4) (0:Int32) (iMin x6 v1) 1 fun h9 =>
Q (some q4) h9))
def f_J13_copyOfRangeByteD (E : Nat → Nat) (B W : Nat) (v0 : Option Nat) (v1 : Int32) (v2 : Int32) (h : hH) (Q : Option Nat → hH → Prop) : Prop :=
f_J13_checkLength E v1 v2 h (fun h2 =>
∃ n3 : Nat, (1 ≤ B ∧ n3 ≤ W ∧ n3 ≤ 100000) ∧ (nA h2 1 (v2 - v1) n3 fun q5 h6 =>
aLn h6 v0 1 fun x7 =>
cpI h6 v0 v1 (some q5) (0:Int32) (iMin (x7 - v1) (v2 - v1)) 1 fun h10 =>
Q (some q5) h10))
def f_J13_copyOfRangeD_j10 (E : Nat → Nat) (Q : Option Nat → hH → Prop) (l0 : Option Nat) (l1 : Int32) (l2 : Int32) (h : hH) (b w : Nat) : Prop :=
∃ b2 w3 : Nat, (b2 ≤ b ∧ w3 ≤ w) ∧ (f_J13_copyOfRangeByteD E b2 w3 l0 l1 l2 h (fun x5 h4 =>
Q x5 h4))
def f_J13_copyOfRangeD (E : Nat → Nat) (B W : Nat) (v0 : Option Nat) (v1 : Int32) (v2 : Int32) (h : hH) (Q : Option Nat → hH → Prop) : Prop :=
cnd (v1 = (0:Int32)) (aLn h v0 1 fun x6 =>
cnd (v2 = x6) (∃ n7 : Nat, (1 ≤ B ∧ n7 ≤ W ∧ n7 ≤ 100000) ∧ (clB h v0 n7 fun q9 h10 =>
ckA h10 (some q9) 1 (Q (some q9) h10))) (f_J13_copyOfRangeD_j10 E Q v0 v1 v2 h B W)) (f_J13_copyOfRangeD_j10 E Q v0 v1 v2 h B W)
def f_J6_ensureCapacityInternal (E : Nat → Nat) (B W : Nat) (v0 : Nat) (v1 : Int32) (h : hH) (Q : hH → Prop) : Prop :=
gR h (some v0) 20 0 fun x1 =>
aLn h x1 1 fun x2 =>
gI h (some v0) 20 1 fun x3 =>
cnd ((v1 - (x2 >>> (x3 &&& 31))) ≤ (0:Int32)) (Q h) (gR h (some v0) 20 0 fun x4 =>
isT h (some v0) 20 fun a15 => f_J6_newCapacity E a15 v1 h (fun x7 h6 =>
gI h6 (some v0) 20 1 fun x8 =>
∃ b10 w11 : Nat, (b10 ≤ B ∧ w11 ≤ W) ∧ (f_J13_copyOfD E b10 w11 x4 (x7 <<< (x8 &&& 31)) h6 (fun x13 h12 =>
pV h12 (some v0) 20 0 (va_rf x13) fun h14 =>
Q h14))))
def f_J6_append (E : Nat → Nat) (B W : Nat) (v0 : Nat) (v1 : Int32) (h : hH) (Q : Option Nat → hH → Prop) : Prop :=
gI h (some v0) 20 3 fun x1 =>
∃ b3 w4 : Nat, (b3 ≤ B ∧ w4 ≤ W) ∧ (isT h (some v0) 20 fun a17 => f_J6_ensureCapacityInternal E b3 w4 a17 (x1 + (1:Int32)) h (fun h5 =>
isT h5 (some v0) 20 fun a16 => f_J6_isLatin1 E a16 h5 (fun x8 h7 =>
cnd (x8 = (0:Int32)) (False) (f_J14_canEncode E v1 h7 (fun x11 h10 =>
cnd (x11 = (0:Int32)) (False) (gR h10 (some v0) 20 0 fun x12 =>
gI h10 (some v0) 20 3 fun x13 =>
pV h10 (some v0) 20 3 (.int (x13 + (1:Int32))) fun h14 =>
stI h14 x12 1 x13 v1.toInt8.toInt32 fun h15 =>
Q (some v0) h15))))))
def f_J6_append_3 (E : Nat → Nat) (B W : Nat) (v0 : Nat) (v1 : Int32) (h : hH) (Q : Option Nat → hH → Prop) : Prop :=
gI h (some v0) 20 3 fun x1 =>
f_J20_stringSize E v1 h (fun x4 h3 =>
∃ b6 w7 : Nat, (b6 ≤ B ∧ w7 ≤ W) ∧ (isT h3 (some v0) 20 fun a18 => f_J6_ensureCapacityInternal E b6 w7 a18 (x1 + x4) h3 (fun h8 =>
isT h8 (some v0) 20 fun a17 => f_J6_isLatin1 E a17 h8 (fun x11 h10 =>
cnd (x11 = (0:Int32)) (False) (gR h10 (some v0) 20 0 fun x12 =>
f_J20_getChars E v1 (x1 + x4) x12 h10 (fun x15 h14 =>
pV h14 (some v0) 20 3 (.int (x1 + x4)) fun h16 =>
Q (some v0) h16))))))
def f_J6_setLength_j76 (E : Nat → Nat) (v0 : Nat) (Q : hH → Prop) (l1 : Int32) (h : hH) (b w : Nat) : Prop :=
pV h (some v0) 20 3 (.int l1) fun h1 =>
Q h1
def f_J6_setLength (E : Nat → Nat) (B W : Nat) (v0 : Nat) (v1 : Int32) (h : hH) (Q : hH → Prop) : Prop :=
cnd ((0:Int32) ≤ v1) (∃ b3 w4 : Nat, (b3 ≤ B ∧ w4 ≤ W) ∧ (isT h (some v0) 20 fun a9 => f_J6_ensureCapacityInternal E b3 w4 a9 v1 h (fun h5 =>
gI h5 (some v0) 20 3 fun x6 =>
cnd (v1 ≤ x6) (gI h5 (some v0) 20 3 fun x7 =>
cnd (x7 ≤ v1) (f_J6_setLength_j76 E v0 Q v1 h5 (B - b3) (W - w4)) (pV h5 (some v0) 20 2 (.int (1:Int32)) fun h8 =>
f_J6_setLength_j76 E v0 Q v1 h8 (B - b3) (W - w4))) (False)))) (False)
def f_J7_append (E : Nat → Nat) (B W : Nat) (v0 : Nat) (v1 : Int32) (h : hH) (Q : Option Nat → hH → Prop) : Prop :=
∃ b2 w3 : Nat, (b2 ≤ B ∧ w3 ≤ W) ∧ (isT h (some v0) 20 fun a6 => f_J6_append E b2 w3 a6 v1 h (fun x5 h4 =>
Q (some v0) h4))
def f_J7_append_3 (E : Nat → Nat) (B W : Nat) (v0 : Nat) (v1 : Int32) (h : hH) (Q : Option Nat → hH → Prop) : Prop :=
∃ b2 w3 : Nat, (b2 ≤ B ∧ w3 ≤ W) ∧ (isT h (some v0) 20 fun a6 => f_J6_append_3 E b2 w3 a6 v1 h (fun x5 h4 =>
Q (some v0) h4))
def f_J7_setLength (E : Nat → Nat) (B W : Nat) (v0 : Nat) (v1 : Int32) (h : hH) (Q : hH → Prop) : Prop :=
∃ b2 w3 : Nat, (b2 ≤ B ∧ w3 ≤ W) ∧ (isT h (some v0) 20 fun a5 => f_J6_setLength E b2 w3 a5 v1 h (fun h4 =>
Q h4))
def f_J8_init_2 (E : Nat → Nat) (B W : Nat) (v0 : Nat) (v1 : Option Nat) (v2 : Option Nat) (h : hH) (Q : hH → Prop) : Prop :=
isT h v1 20 fun a20 => f_J6_getValue E a20 h (fun x4 h3 =>
isT h3 v1 20 fun a19 => f_J7_length E a19 h3 (fun x7 h6 =>
isT h6 v1 20 fun a18 => f_J6_isLatin1 E a18 h6 (fun x10 h9 =>
cnd (x10 = (0:Int32)) (False) (pV h9 (some v0) 21 1 (.int (0:Int32)) fun h11 =>
∃ b13 w14 : Nat, (b13 ≤ B ∧ w14 ≤ W) ∧ (f_J13_copyOfRangeD E b13 w14 x4 (0:Int32) x7 h11 (fun x16 h15 =>
pV h15 (some v0) 21 0 (va_rf x16) fun h17 =>
Q h17))))))
def f_J8_init (E : Nat → Nat) (B W : Nat) (v0 : Nat) (v1 : Option Nat) (h : hH) (Q : hH → Prop) : Prop :=
∃ b2 w3 : Nat, (b2 ≤ B ∧ w3 ≤ W) ∧ (f_J8_init_2 E b2 w3 v0 v1 none h (fun h4 =>
Q h4))
def f_J7_toString (E : Nat → Nat) (B W : Nat) (v0 : Nat) (h : hH) (Q : Option Nat → hH → Prop) : Prop :=
(1 ≤ B ∧ 4 ≤ W) ∧ (nO h 21 [va_rf none, .int 0, .int 0, .int 0] fun q2 h3 =>
∃ b5 w6 : Nat, (b5 ≤ (B - 1) ∧ w6 ≤ (W - 4)) ∧ (f_J8_init E b5 w6 q2 (some v0) h3 (fun h7 =>
Q (some q2) h7)))
def f_J20_valueOfS (E : Nat → Nat) (v0 : Int32) (h : hH) (Q : Option Nat → hH → Prop) : Prop :=
cnd (v0 < (-128:Int32)) (False) (cnd ((127:Int32) < v0) (False) (ldQo h (some (E 9)) (v0 + (128:Int32)) fun x1 =>
Q x1 h))
