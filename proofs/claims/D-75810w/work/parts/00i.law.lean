set_option maxRecDepth 100000
def f_X0_memberNumber (E : Nat → Nat) (v0 : Option Nat) (v1 : Int32) (v2 : Int32) (v3 : Option Nat) (h : hH) (Q : Int32 → hH → Prop) : Prop :=
isT h v0 0 fun a3 => f_X1_memberNumber E a3 v1 v2 h (fun x2 h1 =>
stL h1 v3 3 (0:Int32) x2.toInt64 fun h6 =>
Q (0:Int32) h6) (fun e q4 h5 => e = "java/lang/IndexOutOfBoundsException" ∧ (Q (1:Int32) h5))
def f_X0_cellOf (E : Nat → Nat) (v0 : Option Nat) (v1 : Int32) (v2 : Int32) (v3 : Option Nat) (h : hH) (Q : Int32 → hH → Prop) : Prop :=
isT h v0 0 fun a3 => f_X1_cellOf E a3 v1 v2 h (fun x2 h1 =>
stL h1 v3 3 (0:Int32) x2.toInt64 fun h6 =>
Q (0:Int32) h6) (fun e q4 h5 => e = "java/lang/IndexOutOfBoundsException" ∧ (Q (1:Int32) h5))
def f_X0_commandCount (E : Nat → Nat) (v0 : Option Nat) (v1 : Int32) (v2 : Option Nat) (h : hH) (Q : Int32 → hH → Prop) : Prop :=
isT h v0 0 fun a3 => f_X1_commandCount E a3 v1 h (fun x2 h1 =>
stL h1 v2 3 (0:Int32) x2.toInt64 fun h6 =>
Q (0:Int32) h6) (fun e q4 h5 => e = "java/lang/IndexOutOfBoundsException" ∧ (Q (1:Int32) h5))
def f_X0_command (E : Nat → Nat) (v0 : Option Nat) (v1 : Int32) (v2 : Int32) (v3 : Int32) (v4 : Option Nat) (h : hH) (Q : Int32 → hH → Prop) : Prop :=
isT h v0 0 fun a3 => f_X1_command E a3 v1 v2 v3 h (fun x2 h1 =>
stL h1 v4 3 (0:Int32) x2.toInt64 fun h6 =>
Q (0:Int32) h6) (fun e q4 h5 => e = "java/lang/IndexOutOfBoundsException" ∧ (Q (1:Int32) h5))
def f_X0_faultNumber (E : Nat → Nat) (v0 : Option Nat) (v1 : Int32) (v2 : Int32) (v3 : Option Nat) (h : hH) (Q : Int32 → hH → Prop) : Prop :=
isT h v0 0 fun a3 => f_X1_faultNumber E a3 v1 v2 h (fun x2 h1 =>
stL h1 v3 3 (0:Int32) x2.toInt64 fun h6 =>
Q (0:Int32) h6) (fun e q4 h5 => e = "java/lang/IndexOutOfBoundsException" ∧ (Q (1:Int32) h5))
def f_X0_checksum (E : Nat → Nat) (v0 : Option Nat) (v1 : Int32) (v2 : Int32) (v3 : Option Nat) (h : hH) (Q : Int32 → hH → Prop) : Prop :=
isT h v0 0 fun a3 => f_X1_checksum E a3 v1 v2 h (fun x2 h1 =>
stL h1 v3 3 (0:Int32) x2.toInt64 fun h6 =>
Q (0:Int32) h6) (fun e q4 h5 => e = "java/lang/IndexOutOfBoundsException" ∧ (Q (1:Int32) h5))
def f_X0_rootAt (E : Nat → Nat) (v0 : Option Nat) (v1 : Int32) (v2 : Int32) (v3 : Option Nat) (h : hH) (Q : Int32 → hH → Prop) : Prop :=
isT h v0 0 fun a3 => f_X1_rootAt E a3 v1 v2 h (fun x2 h1 =>
stL h1 v3 3 (0:Int32) x2.toInt64 fun h6 =>
Q (0:Int32) h6) (fun e q4 h5 => e = "java/lang/IndexOutOfBoundsException" ∧ (Q (1:Int32) h5))
def f_X0_firstWrongTurn (E : Nat → Nat) (v0 : Option Nat) (v1 : Int32) (v2 : Int32) (v3 : Option Nat) (h : hH) (Q : Int32 → hH → Prop) : Prop :=
isT h v0 0 fun a3 => f_X1_firstWrongTurn E a3 v1 v2 h (fun x2 h1 =>
stL h1 v3 3 (0:Int32) x2.toInt64 fun h6 =>
Q (0:Int32) h6) (fun e q4 h5 => e = "java/lang/IndexOutOfBoundsException" ∧ (Q (1:Int32) h5))
def f_X0_halvedTurn (E : Nat → Nat) (v0 : Option Nat) (v1 : Int32) (v2 : Int32) (v3 : Option Nat) (h : hH) (Q : Int32 → hH → Prop) : Prop :=
isT h v0 0 fun a3 => f_X1_halvedTurn E a3 v1 v2 h (fun x2 h1 =>
stL h1 v3 3 (0:Int32) x2.toInt64 fun h6 =>
Q (0:Int32) h6) (fun e q4 h5 => e = "java/lang/IndexOutOfBoundsException" ∧ (Q (1:Int32) h5))
def f_X0_isHalvingRight_j16 (E : Nat → Nat) (Q : Int32 → hH → Prop) (s0 : Option Nat) (s1 : Int32) (s2 : Int64) (h : hH) : Prop :=
stL h s0 3 s1 s2 fun h1 =>
Q (0:Int32) h1
def f_X0_isHalvingRight (E : Nat → Nat) (v0 : Option Nat) (v1 : Int32) (v2 : Int32) (v3 : Option Nat) (h : hH) (Q : Int32 → hH → Prop) : Prop :=
isT h v0 0 fun a4 => f_X1_isHalvingRight E a4 v1 v2 h (fun x3 h2 =>
cnd (x3 = (0:Int32)) (f_X0_isHalvingRight_j16 E Q v3 (0:Int32) (0:Int64) h2) (f_X0_isHalvingRight_j16 E Q v3 (0:Int32) (1:Int64) h2)) (fun e q5 h6 => e = "java/lang/IndexOutOfBoundsException" ∧ (Q (1:Int32) h6))
def f_X0_firstWrongCell (E : Nat → Nat) (v0 : Option Nat) (v1 : Int32) (v2 : Int32) (v3 : Option Nat) (h : hH) (Q : Int32 → hH → Prop) : Prop :=
isT h v0 0 fun a3 => f_X1_firstWrongCell E a3 v1 v2 h (fun x2 h1 =>
stL h1 v3 3 (0:Int32) x2.toInt64 fun h6 =>
Q (0:Int32) h6) (fun e q4 h5 => e = "java/lang/IndexOutOfBoundsException" ∧ (Q (1:Int32) h5))
def f_X0_wrongCells (E : Nat → Nat) (v0 : Option Nat) (v1 : Int32) (v2 : Int32) (v3 : Option Nat) (h : hH) (Q : Int32 → hH → Prop) : Prop :=
isT h v0 0 fun a3 => f_X1_wrongCells E a3 v1 v2 h (fun x2 h1 =>
stL h1 v3 3 (0:Int32) x2.toInt64 fun h6 =>
Q (0:Int32) h6) (fun e q4 h5 => e = "java/lang/IndexOutOfBoundsException" ∧ (Q (1:Int32) h5))
def f_X0_comparisons (E : Nat → Nat) (v0 : Option Nat) (v1 : Int32) (v2 : Int32) (v3 : Option Nat) (h : hH) (Q : Int32 → hH → Prop) : Prop :=
isT h v0 0 fun a3 => f_X1_comparisons E a3 v1 v2 h (fun x2 h1 =>
stL h1 v3 3 (0:Int32) x2.toInt64 fun h6 =>
Q (0:Int32) h6) (fun e q4 h5 => e = "java/lang/IndexOutOfBoundsException" ∧ (Q (1:Int32) h5))
def f_X0_votes (E : Nat → Nat) (v0 : Option Nat) (v1 : Int32) (v2 : Int32) (v3 : Option Nat) (h : hH) (Q : Int32 → hH → Prop) : Prop :=
isT h v0 0 fun a3 => f_X1_votes E a3 v1 v2 h (fun x2 h1 =>
stL h1 v3 3 (0:Int32) x2.toInt64 fun h6 =>
Q (0:Int32) h6) (fun e q4 h5 => e = "java/lang/IndexOutOfBoundsException" ∧ (Q (1:Int32) h5))
def f_X0_isWrong_j15 (E : Nat → Nat) (Q : Int32 → hH → Prop) (s0 : Option Nat) (s1 : Int32) (s2 : Int64) (h : hH) : Prop :=
stL h s0 3 s1 s2 fun h1 =>
Q (0:Int32) h1
def f_X0_isWrong (E : Nat → Nat) (v0 : Option Nat) (v1 : Int32) (v2 : Option Nat) (h : hH) (Q : Int32 → hH → Prop) : Prop :=
isT h v0 0 fun a4 => f_X1_isWrong E a4 v1 h (fun x3 h2 =>
cnd (x3 = (0:Int32)) (f_X0_isWrong_j15 E Q v2 (0:Int32) (0:Int64) h2) (f_X0_isWrong_j15 E Q v2 (0:Int32) (1:Int64) h2)) (fun e q5 h6 => e = "java/lang/IndexOutOfBoundsException" ∧ (Q (1:Int32) h6))
def f_X0_donorFor (E : Nat → Nat) (v0 : Option Nat) (v1 : Int32) (v2 : Option Nat) (h : hH) (Q : Int32 → hH → Prop) : Prop :=
isT h v0 0 fun a3 => f_X1_donorFor E a3 v1 h (fun x2 h1 =>
stL h1 v2 3 (0:Int32) x2.toInt64 fun h6 =>
Q (0:Int32) h6) (fun e q4 h5 => e = "java/lang/IndexOutOfBoundsException" ∧ (Q (1:Int32) h5))
def f_X0_whyNot (E : Nat → Nat) (v0 : Option Nat) (v1 : Int32) (v2 : Option Nat) (h : hH) (Q : Int32 → hH → Prop) : Prop :=
isT h v0 0 fun a3 => f_X1_whyNot E a3 v1 h (fun x2 h1 =>
stL h1 v2 3 (0:Int32) x2.toInt64 fun h6 =>
Q (0:Int32) h6) (fun e q4 h5 => e = "java/lang/IndexOutOfBoundsException" ∧ (Q (1:Int32) h5))
def f_X0_mayRun (E : Nat → Nat) (v0 : Option Nat) (v1 : Int32) (v2 : Option Nat) (h : hH) (Q : Int32 → hH → Prop) : Prop :=
isT h v0 0 fun a3 => f_X1_mayRun E a3 v1 h (fun x2 h1 =>
stL h1 v2 3 (0:Int32) x2.toInt64 fun h6 =>
Q (0:Int32) h6) (fun e q4 h5 => e = "java/lang/IndexOutOfBoundsException" ∧ (Q (1:Int32) h5))
def f_X0_truth (E : Nat → Nat) (v0 : Option Nat) (v1 : Int32) (v2 : Int32) (v3 : Option Nat) (h : hH) (Q : Int32 → hH → Prop) : Prop :=
isT h v0 0 fun a3 => f_X1_truth E a3 v1 v2 h (fun x2 h1 =>
stL h1 v3 3 (0:Int32) x2.toInt64 fun h6 =>
Q (0:Int32) h6) (fun e q4 h5 => e = "java/lang/IndexOutOfBoundsException" ∧ (Q (1:Int32) h5))
def f_X0_foreseen (E : Nat → Nat) (v0 : Option Nat) (v1 : Int32) (v2 : Int32) (v3 : Option Nat) (h : hH) (Q : Int32 → hH → Prop) : Prop :=
isT h v0 0 fun a3 => f_X1_foreseen E a3 v1 v2 h (fun x2 h1 =>
stL h1 v3 3 (0:Int32) x2.toInt64 fun h6 =>
Q (0:Int32) h6) (fun e q4 h5 => e = "java/lang/IndexOutOfBoundsException" ∧ (Q (1:Int32) h5))
def f_X0_lastWrite (E : Nat → Nat) (v0 : Option Nat) (v1 : Int32) (v2 : Int32) (v3 : Option Nat) (h : hH) (Q : Int32 → hH → Prop) : Prop :=
isT h v0 0 fun a3 => f_X1_lastWrite E a3 v1 v2 h (fun x2 h1 =>
stL h1 v3 3 (0:Int32) x2.toInt64 fun h6 =>
Q (0:Int32) h6) (fun e q4 h5 => e = "java/lang/IndexOutOfBoundsException" ∧ (Q (1:Int32) h5))
def f_X0_write (E : Nat → Nat) (v0 : Option Nat) (v1 : Int32) (v2 : Option Nat) (h : hH) (Q : Int32 → hH → Prop) : Prop :=
isT h v0 0 fun a3 => f_X1_write E 60 3000 a3 v1 h (fun x2 h1 =>
stL h1 v2 3 (0:Int32) x2.toInt64 fun h6 =>
Q (0:Int32) h6) (fun e q4 h5 => e = "java/lang/IndexOutOfBoundsException" ∧ (Q (1:Int32) h5))
def f_L_law_j240 (E : Nat → Nat) (Q : Int32 → hH → Prop) (K23 : Option Nat → Option Nat → Option Nat → Option Nat → Int32 → hH → Prop) (K311 : hH → Prop) (l0 : Option Nat) (l1 : Option Nat) (l2 : Option Nat) (l3 : Option Nat) (l4 : Int32) (h : hH) : Prop :=
ldIo h l0 (l4 + (1:Int32)) fun x1 =>
ldIo h l0 (l4 + (2:Int32)) fun x2 =>
ldIo h l0 (l4 + (3:Int32)) fun x3 =>
ldIo h l0 (l4 + (4:Int32)) fun x4 =>
ldIo h l0 (l4 + (5:Int32)) fun x5 =>
isT h l1 0 fun a8 => f_X1_feed E a8 x1 x2 x3 x4 x5 h (fun x7 h6 =>
ldIo h6 l0 (l4 + (1:Int32)) fun x9 =>
ldIo h6 l0 (l4 + (2:Int32)) fun x10 =>
ldIo h6 l0 (l4 + (3:Int32)) fun x11 =>
ldIo h6 l0 (l4 + (4:Int32)) fun x12 =>
ldIo h6 l0 (l4 + (5:Int32)) fun x13 =>
isT h6 l2 3 fun a16 => f_X5_feed E a16 x9 x10 x11 x12 x13 h6 (fun x15 h14 =>
cnd (x7 = x15) (K23 l0 l1 l2 l3 (l4 + (6:Int32)) h14) (K311 h14)))
def f_L_law_j313 (E : Nat → Nat) (Q : Int32 → hH → Prop) (K23 : Option Nat → Option Nat → Option Nat → Option Nat → Int32 → hH → Prop) (K336 : hH → Prop) (l0 : Option Nat) (l1 : Option Nat) (l2 : Option Nat) (l3 : Option Nat) (l4 : Int32) (h : hH) : Prop :=
ldIo h l0 (l4 + (1:Int32)) fun x17 =>
isT h l1 0 fun a20 => f_X1_load E 9000 100000 a20 x17 h (fun x19 h18 =>
ldIo h18 l0 (l4 + (1:Int32)) fun x21 =>
isT h18 l2 3 fun a24 => f_X5_load E a24 x21 h18 (fun x23 h22 =>
cnd (x19 = x23) (K23 l0 l1 l2 l3 (l4 + (6:Int32)) h22) (K336 h22)))
def f_L_law_j338 (E : Nat → Nat) (Q : Int32 → hH → Prop) (K23 : Option Nat → Option Nat → Option Nat → Option Nat → Int32 → hH → Prop) (K349 : hH → Prop) (l0 : Option Nat) (l1 : Option Nat) (l2 : Option Nat) (l3 : Option Nat) (l4 : Int32) (h : hH) : Prop :=
isT h l1 0 fun a27 => f_X1_errorPosition E a27 h (fun x26 h25 =>
isT h25 l2 3 fun a30 => f_X5_errorPosition E a30 h25 (fun x29 h28 =>
cnd (x26 = x29) (K23 l0 l1 l2 l3 (l4 + (6:Int32)) h28) (K349 h28)))
def f_L_law_j351 (E : Nat → Nat) (Q : Int32 → hH → Prop) (K23 : Option Nat → Option Nat → Option Nat → Option Nat → Int32 → hH → Prop) (K374 : hH → Prop) (l0 : Option Nat) (l1 : Option Nat) (l2 : Option Nat) (l3 : Option Nat) (l4 : Int32) (h : hH) : Prop :=
ldIo h l0 (l4 + (1:Int32)) fun x31 =>
isT h l1 0 fun a34 => f_X1_count E a34 x31 h (fun x33 h32 =>
ldIo h32 l0 (l4 + (1:Int32)) fun x35 =>
isT h32 l2 3 fun a38 => f_X5_count E a38 x35 h32 (fun x37 h36 =>
cnd (x33 = x37) (K23 l0 l1 l2 l3 (l4 + (6:Int32)) h36) (K374 h36)))
def f_L_law_j376 (E : Nat → Nat) (Q : Int32 → hH → Prop) (K23 : Option Nat → Option Nat → Option Nat → Option Nat → Int32 → hH → Prop) (K387 : hH → Prop) (l0 : Option Nat) (l1 : Option Nat) (l2 : Option Nat) (l3 : Option Nat) (l4 : Int32) (h : hH) : Prop :=
isT h l1 0 fun a41 => f_X1_undoCount E a41 h (fun x40 h39 =>
isT h39 l2 3 fun a44 => f_X5_undoCount E a44 h39 (fun x43 h42 =>
cnd (x40 = x43) (K23 l0 l1 l2 l3 (l4 + (6:Int32)) h42) (K387 h42)))
def f_L_law_j389 (E : Nat → Nat) (Q : Int32 → hH → Prop) (K23 : Option Nat → Option Nat → Option Nat → Option Nat → Int32 → hH → Prop) (K412 : hH → Prop) (l0 : Option Nat) (l1 : Option Nat) (l2 : Option Nat) (l3 : Option Nat) (l4 : Int32) (h : hH) : Prop :=
ldIo h l0 (l4 + (1:Int32)) fun x45 =>
isT h l1 0 fun a48 => f_X1_memberNamed E a48 x45 h (fun x47 h46 =>
ldIo h46 l0 (l4 + (1:Int32)) fun x49 =>
isT h46 l2 3 fun a52 => f_X5_memberNamed E a52 x49 h46 (fun x51 h50 =>
cnd (x47 = x51) (K23 l0 l1 l2 l3 (l4 + (6:Int32)) h50) (K412 h50)))
def f_L_law_j479 (E : Nat → Nat) (Q : Int32 → hH → Prop) (K23 : Option Nat → Option Nat → Option Nat → Option Nat → Int32 → hH → Prop) (l0 : Option Nat) (l1 : Option Nat) (l2 : Option Nat) (l3 : Option Nat) (l4 : Int32) (h : hH) : Prop :=
K23 l0 l1 l2 l3 (l4 + (6:Int32)) h
def f_L_law_j414 (E : Nat → Nat) (Q : Int32 → hH → Prop) (K23 : Option Nat → Option Nat → Option Nat → Option Nat → Int32 → hH → Prop) (K460 : hH → Prop) (K477 : hH → Prop) (l0 : Option Nat) (l1 : Option Nat) (l2 : Option Nat) (l3 : Option Nat) (l4 : Int32) (h : hH) : Prop :=
ldIo h l0 (l4 + (1:Int32)) fun x53 =>
ldIo h l0 (l4 + (2:Int32)) fun x54 =>
f_X0_memberNumber E l1 x53 x54 l3 h (fun x56 h55 =>
ldIo h55 l0 (l4 + (1:Int32)) fun x57 =>
ldIo h55 l0 (l4 + (2:Int32)) fun x58 =>
isT h55 l2 3 fun a61 => f_X5_memberNumber E a61 x57 x58 h55 (fun x60 h59 =>
isT h59 l2 3 fun a64 => f_X5_thrown E a64 h59 (fun x63 h62 =>
cnd (x63 = x56) (cnd (x56 = (0:Int32)) (ldL h62 l3 3 (0:Int32) fun x65 =>
cnd ((lg_cmp x65 x60.toInt64) = (0:Int32)) (f_L_law_j479 E Q K23 l0 l1 l2 l3 l4 h62) (K477 h62)) (f_L_law_j479 E Q K23 l0 l1 l2 l3 l4 h62)) (K460 h62))))
def f_L_law_j482 (E : Nat → Nat) (Q : Int32 → hH → Prop) (K23 : Option Nat → Option Nat → Option Nat → Option Nat → Int32 → hH → Prop) (K505 : hH → Prop) (l0 : Option Nat) (l1 : Option Nat) (l2 : Option Nat) (l3 : Option Nat) (l4 : Int32) (h : hH) : Prop :=
ldIo h l0 (l4 + (1:Int32)) fun x66 =>
isT h l1 0 fun a69 => f_X1_getSetting E a69 x66 h (fun x68 h67 =>
ldIo h67 l0 (l4 + (1:Int32)) fun x70 =>
isT h67 l2 3 fun a73 => f_X5_getSetting E a73 x70 h67 (fun x72 h71 =>
cnd (x68 = x72) (K23 l0 l1 l2 l3 (l4 + (6:Int32)) h71) (K505 h71)))
def f_L_law_j572 (E : Nat → Nat) (Q : Int32 → hH → Prop) (K23 : Option Nat → Option Nat → Option Nat → Option Nat → Int32 → hH → Prop) (l0 : Option Nat) (l1 : Option Nat) (l2 : Option Nat) (l3 : Option Nat) (l4 : Int32) (h : hH) : Prop :=
K23 l0 l1 l2 l3 (l4 + (6:Int32)) h
def f_L_law_j507 (E : Nat → Nat) (Q : Int32 → hH → Prop) (K23 : Option Nat → Option Nat → Option Nat → Option Nat → Int32 → hH → Prop) (K553 : hH → Prop) (K570 : hH → Prop) (l0 : Option Nat) (l1 : Option Nat) (l2 : Option Nat) (l3 : Option Nat) (l4 : Int32) (h : hH) : Prop :=
ldIo h l0 (l4 + (1:Int32)) fun x74 =>
ldIo h l0 (l4 + (2:Int32)) fun x75 =>
f_X0_cellOf E l1 x74 x75 l3 h (fun x77 h76 =>
ldIo h76 l0 (l4 + (1:Int32)) fun x78 =>
ldIo h76 l0 (l4 + (2:Int32)) fun x79 =>
isT h76 l2 3 fun a82 => f_X5_cellOf E a82 x78 x79 h76 (fun x81 h80 =>
isT h80 l2 3 fun a85 => f_X5_thrown E a85 h80 (fun x84 h83 =>
cnd (x84 = x77) (cnd (x77 = (0:Int32)) (ldL h83 l3 3 (0:Int32) fun x86 =>
cnd ((lg_cmp x86 x81.toInt64) = (0:Int32)) (f_L_law_j572 E Q K23 l0 l1 l2 l3 l4 h83) (K570 h83)) (f_L_law_j572 E Q K23 l0 l1 l2 l3 l4 h83)) (K553 h83))))
def f_L_law_j628 (E : Nat → Nat) (Q : Int32 → hH → Prop) (K23 : Option Nat → Option Nat → Option Nat → Option Nat → Int32 → hH → Prop) (l0 : Option Nat) (l1 : Option Nat) (l2 : Option Nat) (l3 : Option Nat) (l4 : Int32) (h : hH) : Prop :=
K23 l0 l1 l2 l3 (l4 + (6:Int32)) h
def f_L_law_j575 (E : Nat → Nat) (Q : Int32 → hH → Prop) (K23 : Option Nat → Option Nat → Option Nat → Option Nat → Int32 → hH → Prop) (K609 : hH → Prop) (K626 : hH → Prop) (l0 : Option Nat) (l1 : Option Nat) (l2 : Option Nat) (l3 : Option Nat) (l4 : Int32) (h : hH) : Prop :=
ldIo h l0 (l4 + (1:Int32)) fun x87 =>
f_X0_commandCount E l1 x87 l3 h (fun x89 h88 =>
ldIo h88 l0 (l4 + (1:Int32)) fun x90 =>
isT h88 l2 3 fun a93 => f_X5_commandCount E a93 x90 h88 (fun x92 h91 =>
isT h91 l2 3 fun a96 => f_X5_thrown E a96 h91 (fun x95 h94 =>
cnd (x95 = x89) (cnd (x89 = (0:Int32)) (ldL h94 l3 3 (0:Int32) fun x97 =>
cnd ((lg_cmp x97 x92.toInt64) = (0:Int32)) (f_L_law_j628 E Q K23 l0 l1 l2 l3 l4 h94) (K626 h94)) (f_L_law_j628 E Q K23 l0 l1 l2 l3 l4 h94)) (K609 h94))))
def f_L_law_j708 (E : Nat → Nat) (Q : Int32 → hH → Prop) (K23 : Option Nat → Option Nat → Option Nat → Option Nat → Int32 → hH → Prop) (l0 : Option Nat) (l1 : Option Nat) (l2 : Option Nat) (l3 : Option Nat) (l4 : Int32) (h : hH) : Prop :=
K23 l0 l1 l2 l3 (l4 + (6:Int32)) h
def f_L_law_j631 (E : Nat → Nat) (Q : Int32 → hH → Prop) (K23 : Option Nat → Option Nat → Option Nat → Option Nat → Int32 → hH → Prop) (K689 : hH → Prop) (K706 : hH → Prop) (l0 : Option Nat) (l1 : Option Nat) (l2 : Option Nat) (l3 : Option Nat) (l4 : Int32) (h : hH) : Prop :=
ldIo h l0 (l4 + (1:Int32)) fun x98 =>
ldIo h l0 (l4 + (2:Int32)) fun x99 =>
ldIo h l0 (l4 + (3:Int32)) fun x100 =>
f_X0_command E l1 x98 x99 x100 l3 h (fun x102 h101 =>
ldIo h101 l0 (l4 + (1:Int32)) fun x103 =>
ldIo h101 l0 (l4 + (2:Int32)) fun x104 =>
ldIo h101 l0 (l4 + (3:Int32)) fun x105 =>
isT h101 l2 3 fun a108 => f_X5_command E a108 x103 x104 x105 h101 (fun x107 h106 =>
isT h106 l2 3 fun a111 => f_X5_thrown E a111 h106 (fun x110 h109 =>
cnd (x110 = x102) (cnd (x102 = (0:Int32)) (ldL h109 l3 3 (0:Int32) fun x112 =>
cnd ((lg_cmp x112 x107.toInt64) = (0:Int32)) (f_L_law_j708 E Q K23 l0 l1 l2 l3 l4 h109) (K706 h109)) (f_L_law_j708 E Q K23 l0 l1 l2 l3 l4 h109)) (K689 h109))))
def f_L_law_j776 (E : Nat → Nat) (Q : Int32 → hH → Prop) (K23 : Option Nat → Option Nat → Option Nat → Option Nat → Int32 → hH → Prop) (l0 : Option Nat) (l1 : Option Nat) (l2 : Option Nat) (l3 : Option Nat) (l4 : Int32) (h : hH) : Prop :=
K23 l0 l1 l2 l3 (l4 + (6:Int32)) h
def f_L_law_j711 (E : Nat → Nat) (Q : Int32 → hH → Prop) (K23 : Option Nat → Option Nat → Option Nat → Option Nat → Int32 → hH → Prop) (K757 : hH → Prop) (K774 : hH → Prop) (l0 : Option Nat) (l1 : Option Nat) (l2 : Option Nat) (l3 : Option Nat) (l4 : Int32) (h : hH) : Prop :=
ldIo h l0 (l4 + (1:Int32)) fun x113 =>
ldIo h l0 (l4 + (2:Int32)) fun x114 =>
f_X0_faultNumber E l1 x113 x114 l3 h (fun x116 h115 =>
ldIo h115 l0 (l4 + (1:Int32)) fun x117 =>
ldIo h115 l0 (l4 + (2:Int32)) fun x118 =>
isT h115 l2 3 fun a121 => f_X5_faultNumber E a121 x117 x118 h115 (fun x120 h119 =>
isT h119 l2 3 fun a124 => f_X5_thrown E a124 h119 (fun x123 h122 =>
cnd (x123 = x116) (cnd (x116 = (0:Int32)) (ldL h122 l3 3 (0:Int32) fun x125 =>
cnd ((lg_cmp x125 x120.toInt64) = (0:Int32)) (f_L_law_j776 E Q K23 l0 l1 l2 l3 l4 h122) (K774 h122)) (f_L_law_j776 E Q K23 l0 l1 l2 l3 l4 h122)) (K757 h122))))
def f_L_law_j844 (E : Nat → Nat) (Q : Int32 → hH → Prop) (K23 : Option Nat → Option Nat → Option Nat → Option Nat → Int32 → hH → Prop) (l0 : Option Nat) (l1 : Option Nat) (l2 : Option Nat) (l3 : Option Nat) (l4 : Int32) (h : hH) : Prop :=
K23 l0 l1 l2 l3 (l4 + (6:Int32)) h
def f_L_law_j779 (E : Nat → Nat) (Q : Int32 → hH → Prop) (K23 : Option Nat → Option Nat → Option Nat → Option Nat → Int32 → hH → Prop) (K825 : hH → Prop) (K842 : hH → Prop) (l0 : Option Nat) (l1 : Option Nat) (l2 : Option Nat) (l3 : Option Nat) (l4 : Int32) (h : hH) : Prop :=
ldIo h l0 (l4 + (1:Int32)) fun x126 =>
ldIo h l0 (l4 + (2:Int32)) fun x127 =>
f_X0_checksum E l1 x126 x127 l3 h (fun x129 h128 =>
ldIo h128 l0 (l4 + (1:Int32)) fun x130 =>
ldIo h128 l0 (l4 + (2:Int32)) fun x131 =>
isT h128 l2 3 fun a134 => f_X5_checksum E a134 x130 x131 h128 (fun x133 h132 =>
isT h132 l2 3 fun a137 => f_X5_thrown E a137 h132 (fun x136 h135 =>
cnd (x136 = x129) (cnd (x129 = (0:Int32)) (ldL h135 l3 3 (0:Int32) fun x138 =>
cnd ((lg_cmp x138 x133.toInt64) = (0:Int32)) (f_L_law_j844 E Q K23 l0 l1 l2 l3 l4 h135) (K842 h135)) (f_L_law_j844 E Q K23 l0 l1 l2 l3 l4 h135)) (K825 h135))))
def f_L_law_j912 (E : Nat → Nat) (Q : Int32 → hH → Prop) (K23 : Option Nat → Option Nat → Option Nat → Option Nat → Int32 → hH → Prop) (l0 : Option Nat) (l1 : Option Nat) (l2 : Option Nat) (l3 : Option Nat) (l4 : Int32) (h : hH) : Prop :=
K23 l0 l1 l2 l3 (l4 + (6:Int32)) h
def f_L_law_j847 (E : Nat → Nat) (Q : Int32 → hH → Prop) (K23 : Option Nat → Option Nat → Option Nat → Option Nat → Int32 → hH → Prop) (K893 : hH → Prop) (K910 : hH → Prop) (l0 : Option Nat) (l1 : Option Nat) (l2 : Option Nat) (l3 : Option Nat) (l4 : Int32) (h : hH) : Prop :=
ldIo h l0 (l4 + (1:Int32)) fun x139 =>
ldIo h l0 (l4 + (2:Int32)) fun x140 =>
f_X0_rootAt E l1 x139 x140 l3 h (fun x142 h141 =>
ldIo h141 l0 (l4 + (1:Int32)) fun x143 =>
ldIo h141 l0 (l4 + (2:Int32)) fun x144 =>
isT h141 l2 3 fun a147 => f_X5_rootAt E a147 x143 x144 h141 (fun x146 h145 =>
isT h145 l2 3 fun a150 => f_X5_thrown E a150 h145 (fun x149 h148 =>
cnd (x149 = x142) (cnd (x142 = (0:Int32)) (ldL h148 l3 3 (0:Int32) fun x151 =>
cnd ((lg_cmp x151 x146.toInt64) = (0:Int32)) (f_L_law_j912 E Q K23 l0 l1 l2 l3 l4 h148) (K910 h148)) (f_L_law_j912 E Q K23 l0 l1 l2 l3 l4 h148)) (K893 h148))))
def f_L_law_j980 (E : Nat → Nat) (Q : Int32 → hH → Prop) (K23 : Option Nat → Option Nat → Option Nat → Option Nat → Int32 → hH → Prop) (l0 : Option Nat) (l1 : Option Nat) (l2 : Option Nat) (l3 : Option Nat) (l4 : Int32) (h : hH) : Prop :=
K23 l0 l1 l2 l3 (l4 + (6:Int32)) h
def f_L_law_j915 (E : Nat → Nat) (Q : Int32 → hH → Prop) (K23 : Option Nat → Option Nat → Option Nat → Option Nat → Int32 → hH → Prop) (K961 : hH → Prop) (K978 : hH → Prop) (l0 : Option Nat) (l1 : Option Nat) (l2 : Option Nat) (l3 : Option Nat) (l4 : Int32) (h : hH) : Prop :=
ldIo h l0 (l4 + (1:Int32)) fun x152 =>
ldIo h l0 (l4 + (2:Int32)) fun x153 =>
f_X0_firstWrongTurn E l1 x152 x153 l3 h (fun x155 h154 =>
ldIo h154 l0 (l4 + (1:Int32)) fun x156 =>
ldIo h154 l0 (l4 + (2:Int32)) fun x157 =>
isT h154 l2 3 fun a160 => f_X5_firstWrongTurn E a160 x156 x157 h154 (fun x159 h158 =>
isT h158 l2 3 fun a163 => f_X5_thrown E a163 h158 (fun x162 h161 =>
cnd (x162 = x155) (cnd (x155 = (0:Int32)) (ldL h161 l3 3 (0:Int32) fun x164 =>
cnd ((lg_cmp x164 x159.toInt64) = (0:Int32)) (f_L_law_j980 E Q K23 l0 l1 l2 l3 l4 h161) (K978 h161)) (f_L_law_j980 E Q K23 l0 l1 l2 l3 l4 h161)) (K961 h161))))
def f_L_law_j1048 (E : Nat → Nat) (Q : Int32 → hH → Prop) (K23 : Option Nat → Option Nat → Option Nat → Option Nat → Int32 → hH → Prop) (l0 : Option Nat) (l1 : Option Nat) (l2 : Option Nat) (l3 : Option Nat) (l4 : Int32) (h : hH) : Prop :=
K23 l0 l1 l2 l3 (l4 + (6:Int32)) h
def f_L_law_j983 (E : Nat → Nat) (Q : Int32 → hH → Prop) (K23 : Option Nat → Option Nat → Option Nat → Option Nat → Int32 → hH → Prop) (K1029 : hH → Prop) (K1046 : hH → Prop) (l0 : Option Nat) (l1 : Option Nat) (l2 : Option Nat) (l3 : Option Nat) (l4 : Int32) (h : hH) : Prop :=
ldIo h l0 (l4 + (1:Int32)) fun x165 =>
ldIo h l0 (l4 + (2:Int32)) fun x166 =>
f_X0_halvedTurn E l1 x165 x166 l3 h (fun x168 h167 =>
ldIo h167 l0 (l4 + (1:Int32)) fun x169 =>
ldIo h167 l0 (l4 + (2:Int32)) fun x170 =>
isT h167 l2 3 fun a173 => f_X5_halvedTurn E a173 x169 x170 h167 (fun x172 h171 =>
isT h171 l2 3 fun a176 => f_X5_thrown E a176 h171 (fun x175 h174 =>
cnd (x175 = x168) (cnd (x168 = (0:Int32)) (ldL h174 l3 3 (0:Int32) fun x177 =>
cnd ((lg_cmp x177 x172.toInt64) = (0:Int32)) (f_L_law_j1048 E Q K23 l0 l1 l2 l3 l4 h174) (K1046 h174)) (f_L_law_j1048 E Q K23 l0 l1 l2 l3 l4 h174)) (K1029 h174))))
def f_L_law_j1123 (E : Nat → Nat) (Q : Int32 → hH → Prop) (K23 : Option Nat → Option Nat → Option Nat → Option Nat → Int32 → hH → Prop) (l0 : Option Nat) (l1 : Option Nat) (l2 : Option Nat) (l3 : Option Nat) (l4 : Int32) (h : hH) : Prop :=
K23 l0 l1 l2 l3 (l4 + (6:Int32)) h
def f_L_law_j1117 (E : Nat → Nat) (Q : Int32 → hH → Prop) (K23 : Option Nat → Option Nat → Option Nat → Option Nat → Int32 → hH → Prop) (K1121 : hH → Prop) (s0 : Int64) (s1 : Int64) (l0 : Option Nat) (l1 : Option Nat) (l2 : Option Nat) (l3 : Option Nat) (l4 : Int32) (h : hH) : Prop :=
cnd ((lg_cmp s0 s1) = (0:Int32)) (f_L_law_j1123 E Q K23 l0 l1 l2 l3 l4 h) (K1121 h)
def f_L_law_j1051 (E : Nat → Nat) (Q : Int32 → hH → Prop) (K23 : Option Nat → Option Nat → Option Nat → Option Nat → Int32 → hH → Prop) (K1097 : hH → Prop) (K1121 : hH → Prop) (l0 : Option Nat) (l1 : Option Nat) (l2 : Option Nat) (l3 : Option Nat) (l4 : Int32) (h : hH) : Prop :=
ldIo h l0 (l4 + (1:Int32)) fun x178 =>
ldIo h l0 (l4 + (2:Int32)) fun x179 =>
f_X0_isHalvingRight E l1 x178 x179 l3 h (fun x181 h180 =>
ldIo h180 l0 (l4 + (1:Int32)) fun x182 =>
ldIo h180 l0 (l4 + (2:Int32)) fun x183 =>
isT h180 l2 3 fun a186 => f_X5_isHalvingRight E a186 x182 x183 h180 (fun x185 h184 =>
isT h184 l2 3 fun a189 => f_X5_thrown E a189 h184 (fun x188 h187 =>
cnd (x188 = x181) (cnd (x181 = (0:Int32)) (ldL h187 l3 3 (0:Int32) fun x190 =>
cnd (x185 = (0:Int32)) (f_L_law_j1117 E Q K23 K1121 x190 (0:Int64) l0 l1 l2 l3 l4 h187) (f_L_law_j1117 E Q K23 K1121 x190 (1:Int64) l0 l1 l2 l3 l4 h187)) (f_L_law_j1123 E Q K23 l0 l1 l2 l3 l4 h187)) (K1097 h187))))
def f_L_law_j1191 (E : Nat → Nat) (Q : Int32 → hH → Prop) (K23 : Option Nat → Option Nat → Option Nat → Option Nat → Int32 → hH → Prop) (l0 : Option Nat) (l1 : Option Nat) (l2 : Option Nat) (l3 : Option Nat) (l4 : Int32) (h : hH) : Prop :=
K23 l0 l1 l2 l3 (l4 + (6:Int32)) h
def f_L_law_j1126 (E : Nat → Nat) (Q : Int32 → hH → Prop) (K23 : Option Nat → Option Nat → Option Nat → Option Nat → Int32 → hH → Prop) (K1172 : hH → Prop) (K1189 : hH → Prop) (l0 : Option Nat) (l1 : Option Nat) (l2 : Option Nat) (l3 : Option Nat) (l4 : Int32) (h : hH) : Prop :=
ldIo h l0 (l4 + (1:Int32)) fun x191 =>
ldIo h l0 (l4 + (2:Int32)) fun x192 =>
f_X0_firstWrongCell E l1 x191 x192 l3 h (fun x194 h193 =>
ldIo h193 l0 (l4 + (1:Int32)) fun x195 =>
ldIo h193 l0 (l4 + (2:Int32)) fun x196 =>
isT h193 l2 3 fun a199 => f_X5_firstWrongCell E a199 x195 x196 h193 (fun x198 h197 =>
isT h197 l2 3 fun a202 => f_X5_thrown E a202 h197 (fun x201 h200 =>
cnd (x201 = x194) (cnd (x194 = (0:Int32)) (ldL h200 l3 3 (0:Int32) fun x203 =>
cnd ((lg_cmp x203 x198.toInt64) = (0:Int32)) (f_L_law_j1191 E Q K23 l0 l1 l2 l3 l4 h200) (K1189 h200)) (f_L_law_j1191 E Q K23 l0 l1 l2 l3 l4 h200)) (K1172 h200))))
def f_L_law_j1259 (E : Nat → Nat) (Q : Int32 → hH → Prop) (K23 : Option Nat → Option Nat → Option Nat → Option Nat → Int32 → hH → Prop) (l0 : Option Nat) (l1 : Option Nat) (l2 : Option Nat) (l3 : Option Nat) (l4 : Int32) (h : hH) : Prop :=
K23 l0 l1 l2 l3 (l4 + (6:Int32)) h
def f_L_law_j1194 (E : Nat → Nat) (Q : Int32 → hH → Prop) (K23 : Option Nat → Option Nat → Option Nat → Option Nat → Int32 → hH → Prop) (K1240 : hH → Prop) (K1257 : hH → Prop) (l0 : Option Nat) (l1 : Option Nat) (l2 : Option Nat) (l3 : Option Nat) (l4 : Int32) (h : hH) : Prop :=
ldIo h l0 (l4 + (1:Int32)) fun x204 =>
ldIo h l0 (l4 + (2:Int32)) fun x205 =>
f_X0_wrongCells E l1 x204 x205 l3 h (fun x207 h206 =>
ldIo h206 l0 (l4 + (1:Int32)) fun x208 =>
ldIo h206 l0 (l4 + (2:Int32)) fun x209 =>
isT h206 l2 3 fun a212 => f_X5_wrongCells E a212 x208 x209 h206 (fun x211 h210 =>
isT h210 l2 3 fun a215 => f_X5_thrown E a215 h210 (fun x214 h213 =>
cnd (x214 = x207) (cnd (x207 = (0:Int32)) (ldL h213 l3 3 (0:Int32) fun x216 =>
cnd ((lg_cmp x216 x211.toInt64) = (0:Int32)) (f_L_law_j1259 E Q K23 l0 l1 l2 l3 l4 h213) (K1257 h213)) (f_L_law_j1259 E Q K23 l0 l1 l2 l3 l4 h213)) (K1240 h213))))
def f_L_law_j1327 (E : Nat → Nat) (Q : Int32 → hH → Prop) (K23 : Option Nat → Option Nat → Option Nat → Option Nat → Int32 → hH → Prop) (l0 : Option Nat) (l1 : Option Nat) (l2 : Option Nat) (l3 : Option Nat) (l4 : Int32) (h : hH) : Prop :=
K23 l0 l1 l2 l3 (l4 + (6:Int32)) h
def f_L_law_j1262 (E : Nat → Nat) (Q : Int32 → hH → Prop) (K23 : Option Nat → Option Nat → Option Nat → Option Nat → Int32 → hH → Prop) (K1308 : hH → Prop) (K1325 : hH → Prop) (l0 : Option Nat) (l1 : Option Nat) (l2 : Option Nat) (l3 : Option Nat) (l4 : Int32) (h : hH) : Prop :=
ldIo h l0 (l4 + (1:Int32)) fun x217 =>
ldIo h l0 (l4 + (2:Int32)) fun x218 =>
f_X0_comparisons E l1 x217 x218 l3 h (fun x220 h219 =>
ldIo h219 l0 (l4 + (1:Int32)) fun x221 =>
ldIo h219 l0 (l4 + (2:Int32)) fun x222 =>
isT h219 l2 3 fun a225 => f_X5_comparisons E a225 x221 x222 h219 (fun x224 h223 =>
isT h223 l2 3 fun a228 => f_X5_thrown E a228 h223 (fun x227 h226 =>
cnd (x227 = x220) (cnd (x220 = (0:Int32)) (ldL h226 l3 3 (0:Int32) fun x229 =>
cnd ((lg_cmp x229 x224.toInt64) = (0:Int32)) (f_L_law_j1327 E Q K23 l0 l1 l2 l3 l4 h226) (K1325 h226)) (f_L_law_j1327 E Q K23 l0 l1 l2 l3 l4 h226)) (K1308 h226))))
def f_L_law_j1395 (E : Nat → Nat) (Q : Int32 → hH → Prop) (K23 : Option Nat → Option Nat → Option Nat → Option Nat → Int32 → hH → Prop) (l0 : Option Nat) (l1 : Option Nat) (l2 : Option Nat) (l3 : Option Nat) (l4 : Int32) (h : hH) : Prop :=
K23 l0 l1 l2 l3 (l4 + (6:Int32)) h
def f_L_law_j1330 (E : Nat → Nat) (Q : Int32 → hH → Prop) (K23 : Option Nat → Option Nat → Option Nat → Option Nat → Int32 → hH → Prop) (K1376 : hH → Prop) (K1393 : hH → Prop) (l0 : Option Nat) (l1 : Option Nat) (l2 : Option Nat) (l3 : Option Nat) (l4 : Int32) (h : hH) : Prop :=
ldIo h l0 (l4 + (1:Int32)) fun x230 =>
ldIo h l0 (l4 + (2:Int32)) fun x231 =>
f_X0_votes E l1 x230 x231 l3 h (fun x233 h232 =>
ldIo h232 l0 (l4 + (1:Int32)) fun x234 =>
ldIo h232 l0 (l4 + (2:Int32)) fun x235 =>
isT h232 l2 3 fun a238 => f_X5_votes E a238 x234 x235 h232 (fun x237 h236 =>
isT h236 l2 3 fun a241 => f_X5_thrown E a241 h236 (fun x240 h239 =>
cnd (x240 = x233) (cnd (x233 = (0:Int32)) (ldL h239 l3 3 (0:Int32) fun x242 =>
cnd ((lg_cmp x242 x237.toInt64) = (0:Int32)) (f_L_law_j1395 E Q K23 l0 l1 l2 l3 l4 h239) (K1393 h239)) (f_L_law_j1395 E Q K23 l0 l1 l2 l3 l4 h239)) (K1376 h239))))
def f_L_law_j1398 (E : Nat → Nat) (Q : Int32 → hH → Prop) (K23 : Option Nat → Option Nat → Option Nat → Option Nat → Int32 → hH → Prop) (K1421 : hH → Prop) (l0 : Option Nat) (l1 : Option Nat) (l2 : Option Nat) (l3 : Option Nat) (l4 : Int32) (h : hH) : Prop :=
ldIo h l0 (l4 + (1:Int32)) fun x243 =>
isT h l1 0 fun a246 => f_X1_winner E a246 x243 h (fun x245 h244 =>
ldIo h244 l0 (l4 + (1:Int32)) fun x247 =>
isT h244 l2 3 fun a250 => f_X5_winner E a250 x247 h244 (fun x249 h248 =>
cnd (x245 = x249) (K23 l0 l1 l2 l3 (l4 + (6:Int32)) h248) (K1421 h248)))
def f_L_law_j1483 (E : Nat → Nat) (Q : Int32 → hH → Prop) (K23 : Option Nat → Option Nat → Option Nat → Option Nat → Int32 → hH → Prop) (l0 : Option Nat) (l1 : Option Nat) (l2 : Option Nat) (l3 : Option Nat) (l4 : Int32) (h : hH) : Prop :=
K23 l0 l1 l2 l3 (l4 + (6:Int32)) h
def f_L_law_j1477 (E : Nat → Nat) (Q : Int32 → hH → Prop) (K23 : Option Nat → Option Nat → Option Nat → Option Nat → Int32 → hH → Prop) (K1481 : hH → Prop) (s0 : Int64) (s1 : Int64) (l0 : Option Nat) (l1 : Option Nat) (l2 : Option Nat) (l3 : Option Nat) (l4 : Int32) (h : hH) : Prop :=
cnd ((lg_cmp s0 s1) = (0:Int32)) (f_L_law_j1483 E Q K23 l0 l1 l2 l3 l4 h) (K1481 h)
def f_L_law_j1423 (E : Nat → Nat) (Q : Int32 → hH → Prop) (K23 : Option Nat → Option Nat → Option Nat → Option Nat → Int32 → hH → Prop) (K1457 : hH → Prop) (K1481 : hH → Prop) (l0 : Option Nat) (l1 : Option Nat) (l2 : Option Nat) (l3 : Option Nat) (l4 : Int32) (h : hH) : Prop :=
ldIo h l0 (l4 + (1:Int32)) fun x251 =>
f_X0_isWrong E l1 x251 l3 h (fun x253 h252 =>
ldIo h252 l0 (l4 + (1:Int32)) fun x254 =>
isT h252 l2 3 fun a257 => f_X5_isWrong E a257 x254 h252 (fun x256 h255 =>
isT h255 l2 3 fun a260 => f_X5_thrown E a260 h255 (fun x259 h258 =>
cnd (x259 = x253) (cnd (x253 = (0:Int32)) (ldL h258 l3 3 (0:Int32) fun x261 =>
cnd (x256 = (0:Int32)) (f_L_law_j1477 E Q K23 K1481 x261 (0:Int64) l0 l1 l2 l3 l4 h258) (f_L_law_j1477 E Q K23 K1481 x261 (1:Int64) l0 l1 l2 l3 l4 h258)) (f_L_law_j1483 E Q K23 l0 l1 l2 l3 l4 h258)) (K1457 h258))))
def f_L_law_j1486 (E : Nat → Nat) (Q : Int32 → hH → Prop) (K23 : Option Nat → Option Nat → Option Nat → Option Nat → Int32 → hH → Prop) (K1497 : hH → Prop) (l0 : Option Nat) (l1 : Option Nat) (l2 : Option Nat) (l3 : Option Nat) (l4 : Int32) (h : hH) : Prop :=
isT h l1 0 fun a264 => f_X1_wrongMembers E a264 h (fun x263 h262 =>
isT h262 l2 3 fun a267 => f_X5_wrongMembers E a267 h262 (fun x266 h265 =>
cnd (x263 = x266) (K23 l0 l1 l2 l3 (l4 + (6:Int32)) h265) (K1497 h265)))
def f_L_law_j1552 (E : Nat → Nat) (Q : Int32 → hH → Prop) (K23 : Option Nat → Option Nat → Option Nat → Option Nat → Int32 → hH → Prop) (l0 : Option Nat) (l1 : Option Nat) (l2 : Option Nat) (l3 : Option Nat) (l4 : Int32) (h : hH) : Prop :=
K23 l0 l1 l2 l3 (l4 + (6:Int32)) h
def f_L_law_j1499 (E : Nat → Nat) (Q : Int32 → hH → Prop) (K23 : Option Nat → Option Nat → Option Nat → Option Nat → Int32 → hH → Prop) (K1533 : hH → Prop) (K1550 : hH → Prop) (l0 : Option Nat) (l1 : Option Nat) (l2 : Option Nat) (l3 : Option Nat) (l4 : Int32) (h : hH) : Prop :=
ldIo h l0 (l4 + (1:Int32)) fun x268 =>
f_X0_donorFor E l1 x268 l3 h (fun x270 h269 =>
ldIo h269 l0 (l4 + (1:Int32)) fun x271 =>
isT h269 l2 3 fun a274 => f_X5_donorFor E a274 x271 h269 (fun x273 h272 =>
isT h272 l2 3 fun a277 => f_X5_thrown E a277 h272 (fun x276 h275 =>
cnd (x276 = x270) (cnd (x270 = (0:Int32)) (ldL h275 l3 3 (0:Int32) fun x278 =>
cnd ((lg_cmp x278 x273.toInt64) = (0:Int32)) (f_L_law_j1552 E Q K23 l0 l1 l2 l3 l4 h275) (K1550 h275)) (f_L_law_j1552 E Q K23 l0 l1 l2 l3 l4 h275)) (K1533 h275))))
def f_L_law_j1608 (E : Nat → Nat) (Q : Int32 → hH → Prop) (K23 : Option Nat → Option Nat → Option Nat → Option Nat → Int32 → hH → Prop) (l0 : Option Nat) (l1 : Option Nat) (l2 : Option Nat) (l3 : Option Nat) (l4 : Int32) (h : hH) : Prop :=
K23 l0 l1 l2 l3 (l4 + (6:Int32)) h
def f_L_law_j1555 (E : Nat → Nat) (Q : Int32 → hH → Prop) (K23 : Option Nat → Option Nat → Option Nat → Option Nat → Int32 → hH → Prop) (K1589 : hH → Prop) (K1606 : hH → Prop) (l0 : Option Nat) (l1 : Option Nat) (l2 : Option Nat) (l3 : Option Nat) (l4 : Int32) (h : hH) : Prop :=
ldIo h l0 (l4 + (1:Int32)) fun x279 =>
f_X0_whyNot E l1 x279 l3 h (fun x281 h280 =>
ldIo h280 l0 (l4 + (1:Int32)) fun x282 =>
isT h280 l2 3 fun a285 => f_X5_whyNot E a285 x282 h280 (fun x284 h283 =>
isT h283 l2 3 fun a288 => f_X5_thrown E a288 h283 (fun x287 h286 =>
cnd (x287 = x281) (cnd (x281 = (0:Int32)) (ldL h286 l3 3 (0:Int32) fun x289 =>
cnd ((lg_cmp x289 x284.toInt64) = (0:Int32)) (f_L_law_j1608 E Q K23 l0 l1 l2 l3 l4 h286) (K1606 h286)) (f_L_law_j1608 E Q K23 l0 l1 l2 l3 l4 h286)) (K1589 h286))))
def f_L_law_j1644 (E : Nat → Nat) (Q : Int32 → hH → Prop) (K23 : Option Nat → Option Nat → Option Nat → Option Nat → Int32 → hH → Prop) (K1650 : hH → Prop) (s0 : Int32) (s1 : Option Nat) (s2 : Int32) (l0 : Option Nat) (l1 : Option Nat) (l2 : Option Nat) (l3 : Option Nat) (l4 : Int32) (h : hH) : Prop :=
isT h s1 3 fun a292 => f_X5_reached E a292 s2 h (fun x291 h290 =>
cnd (s0 = x291) (K23 l0 l1 l2 l3 (l4 + (6:Int32)) h290) (K1650 h290))
def f_L_law_j1626 (E : Nat → Nat) (Q : Int32 → hH → Prop) (K23 : Option Nat → Option Nat → Option Nat → Option Nat → Int32 → hH → Prop) (K1650 : hH → Prop) (s0 : Option Nat) (s1 : Int32) (l0 : Option Nat) (l1 : Option Nat) (l2 : Option Nat) (l3 : Option Nat) (l4 : Int32) (h : hH) : Prop :=
isT h s0 0 fun a295 => f_X1_reached E a295 s1 h (fun x294 h293 =>
ldIo h293 l0 (l4 + (1:Int32)) fun x296 =>
cnd (x296 = (0:Int32)) (f_L_law_j1644 E Q K23 K1650 x294 l2 (0:Int32) l0 l1 l2 l3 l4 h293) (f_L_law_j1644 E Q K23 K1650 x294 l2 (1:Int32) l0 l1 l2 l3 l4 h293))
def f_L_law_j1611 (E : Nat → Nat) (Q : Int32 → hH → Prop) (K23 : Option Nat → Option Nat → Option Nat → Option Nat → Int32 → hH → Prop) (K1650 : hH → Prop) (l0 : Option Nat) (l1 : Option Nat) (l2 : Option Nat) (l3 : Option Nat) (l4 : Int32) (h : hH) : Prop :=
ldIo h l0 (l4 + (1:Int32)) fun x297 =>
cnd (x297 = (0:Int32)) (f_L_law_j1626 E Q K23 K1650 l1 (0:Int32) l0 l1 l2 l3 l4 h) (f_L_law_j1626 E Q K23 K1650 l1 (1:Int32) l0 l1 l2 l3 l4 h)
def f_L_law_j1705 (E : Nat → Nat) (Q : Int32 → hH → Prop) (K23 : Option Nat → Option Nat → Option Nat → Option Nat → Int32 → hH → Prop) (l0 : Option Nat) (l1 : Option Nat) (l2 : Option Nat) (l3 : Option Nat) (l4 : Int32) (h : hH) : Prop :=
K23 l0 l1 l2 l3 (l4 + (6:Int32)) h
def f_L_law_j1652 (E : Nat → Nat) (Q : Int32 → hH → Prop) (K23 : Option Nat → Option Nat → Option Nat → Option Nat → Int32 → hH → Prop) (K1686 : hH → Prop) (K1703 : hH → Prop) (l0 : Option Nat) (l1 : Option Nat) (l2 : Option Nat) (l3 : Option Nat) (l4 : Int32) (h : hH) : Prop :=
ldIo h l0 (l4 + (1:Int32)) fun x298 =>
f_X0_mayRun E l1 x298 l3 h (fun x300 h299 =>
ldIo h299 l0 (l4 + (1:Int32)) fun x301 =>
isT h299 l2 3 fun a304 => f_X5_mayRun E a304 x301 h299 (fun x303 h302 =>
isT h302 l2 3 fun a307 => f_X5_thrown E a307 h302 (fun x306 h305 =>
cnd (x306 = x300) (cnd (x300 = (0:Int32)) (ldL h305 l3 3 (0:Int32) fun x308 =>
cnd ((lg_cmp x308 x303.toInt64) = (0:Int32)) (f_L_law_j1705 E Q K23 l0 l1 l2 l3 l4 h305) (K1703 h305)) (f_L_law_j1705 E Q K23 l0 l1 l2 l3 l4 h305)) (K1686 h305))))
def f_L_law_j1746 (E : Nat → Nat) (Q : Int32 → hH → Prop) (K23 : Option Nat → Option Nat → Option Nat → Option Nat → Int32 → hH → Prop) (l0 : Option Nat) (l1 : Option Nat) (l2 : Option Nat) (l3 : Option Nat) (l4 : Int32) (h : hH) : Prop :=
K23 l0 l1 l2 l3 (l4 + (6:Int32)) h
def f_L_law_j1708 (E : Nat → Nat) (Q : Int32 → hH → Prop) (K23 : Option Nat → Option Nat → Option Nat → Option Nat → Int32 → hH → Prop) (K1744 : hH → Prop) (l0 : Option Nat) (l1 : Option Nat) (l2 : Option Nat) (l3 : Option Nat) (l4 : Int32) (h : hH) : Prop :=
isT h l1 0 fun a311 => f_X1_meanTurns E a311 h (fun x310 h309 =>
isT h309 l2 3 fun a314 => f_X5_meanTurns E a314 h309 (fun x313 h312 =>
cnd ((Op.cmpValue (FP.dcmp x310 x313) .l) = (0:Int32)) (f_L_law_j1746 E Q K23 l0 l1 l2 l3 l4 h312) (cnd ((Op.cmpValue (FP.dcmp x310 x310) .l) = (0:Int32)) (K1744 h312) (cnd ((Op.cmpValue (FP.dcmp x313 x313) .l) = (0:Int32)) (K1744 h312) (f_L_law_j1746 E Q K23 l0 l1 l2 l3 l4 h312)))))
def f_L_law_j1814 (E : Nat → Nat) (Q : Int32 → hH → Prop) (K23 : Option Nat → Option Nat → Option Nat → Option Nat → Int32 → hH → Prop) (l0 : Option Nat) (l1 : Option Nat) (l2 : Option Nat) (l3 : Option Nat) (l4 : Int32) (h : hH) : Prop :=
K23 l0 l1 l2 l3 (l4 + (6:Int32)) h
def f_L_law_j1749 (E : Nat → Nat) (Q : Int32 → hH → Prop) (K23 : Option Nat → Option Nat → Option Nat → Option Nat → Int32 → hH → Prop) (K1795 : hH → Prop) (K1812 : hH → Prop) (l0 : Option Nat) (l1 : Option Nat) (l2 : Option Nat) (l3 : Option Nat) (l4 : Int32) (h : hH) : Prop :=
ldIo h l0 (l4 + (1:Int32)) fun x315 =>
ldIo h l0 (l4 + (2:Int32)) fun x316 =>
f_X0_truth E l1 x315 x316 l3 h (fun x318 h317 =>
ldIo h317 l0 (l4 + (1:Int32)) fun x319 =>
ldIo h317 l0 (l4 + (2:Int32)) fun x320 =>
isT h317 l2 3 fun a323 => f_X5_truth E a323 x319 x320 h317 (fun x322 h321 =>
isT h321 l2 3 fun a326 => f_X5_thrown E a326 h321 (fun x325 h324 =>
cnd (x325 = x318) (cnd (x318 = (0:Int32)) (ldL h324 l3 3 (0:Int32) fun x327 =>
cnd ((lg_cmp x327 x322.toInt64) = (0:Int32)) (f_L_law_j1814 E Q K23 l0 l1 l2 l3 l4 h324) (K1812 h324)) (f_L_law_j1814 E Q K23 l0 l1 l2 l3 l4 h324)) (K1795 h324))))
def f_L_law_j1817 (E : Nat → Nat) (Q : Int32 → hH → Prop) (K23 : Option Nat → Option Nat → Option Nat → Option Nat → Int32 → hH → Prop) (K1828 : hH → Prop) (l0 : Option Nat) (l1 : Option Nat) (l2 : Option Nat) (l3 : Option Nat) (l4 : Int32) (h : hH) : Prop :=
isT h l1 0 fun a330 => f_X1_trueMembers E a330 h (fun x329 h328 =>
isT h328 l2 3 fun a333 => f_X5_trueMembers E a333 h328 (fun x332 h331 =>
cnd (x329 = x332) (K23 l0 l1 l2 l3 (l4 + (6:Int32)) h331) (K1828 h331)))
def f_L_law_j1895 (E : Nat → Nat) (Q : Int32 → hH → Prop) (K23 : Option Nat → Option Nat → Option Nat → Option Nat → Int32 → hH → Prop) (l0 : Option Nat) (l1 : Option Nat) (l2 : Option Nat) (l3 : Option Nat) (l4 : Int32) (h : hH) : Prop :=
K23 l0 l1 l2 l3 (l4 + (6:Int32)) h
def f_L_law_j1830 (E : Nat → Nat) (Q : Int32 → hH → Prop) (K23 : Option Nat → Option Nat → Option Nat → Option Nat → Int32 → hH → Prop) (K1876 : hH → Prop) (K1893 : hH → Prop) (l0 : Option Nat) (l1 : Option Nat) (l2 : Option Nat) (l3 : Option Nat) (l4 : Int32) (h : hH) : Prop :=
ldIo h l0 (l4 + (1:Int32)) fun x334 =>
ldIo h l0 (l4 + (2:Int32)) fun x335 =>
f_X0_foreseen E l1 x334 x335 l3 h (fun x337 h336 =>
ldIo h336 l0 (l4 + (1:Int32)) fun x338 =>
ldIo h336 l0 (l4 + (2:Int32)) fun x339 =>
isT h336 l2 3 fun a342 => f_X5_foreseen E a342 x338 x339 h336 (fun x341 h340 =>
isT h340 l2 3 fun a345 => f_X5_thrown E a345 h340 (fun x344 h343 =>
cnd (x344 = x337) (cnd (x337 = (0:Int32)) (ldL h343 l3 3 (0:Int32) fun x346 =>
cnd ((lg_cmp x346 x341.toInt64) = (0:Int32)) (f_L_law_j1895 E Q K23 l0 l1 l2 l3 l4 h343) (K1893 h343)) (f_L_law_j1895 E Q K23 l0 l1 l2 l3 l4 h343)) (K1876 h343))))
def f_L_law_j1963 (E : Nat → Nat) (Q : Int32 → hH → Prop) (K23 : Option Nat → Option Nat → Option Nat → Option Nat → Int32 → hH → Prop) (l0 : Option Nat) (l1 : Option Nat) (l2 : Option Nat) (l3 : Option Nat) (l4 : Int32) (h : hH) : Prop :=
K23 l0 l1 l2 l3 (l4 + (6:Int32)) h
def f_L_law_j1898 (E : Nat → Nat) (Q : Int32 → hH → Prop) (K23 : Option Nat → Option Nat → Option Nat → Option Nat → Int32 → hH → Prop) (K1944 : hH → Prop) (K1961 : hH → Prop) (l0 : Option Nat) (l1 : Option Nat) (l2 : Option Nat) (l3 : Option Nat) (l4 : Int32) (h : hH) : Prop :=
ldIo h l0 (l4 + (1:Int32)) fun x347 =>
ldIo h l0 (l4 + (2:Int32)) fun x348 =>
f_X0_lastWrite E l1 x347 x348 l3 h (fun x350 h349 =>
ldIo h349 l0 (l4 + (1:Int32)) fun x351 =>
ldIo h349 l0 (l4 + (2:Int32)) fun x352 =>
isT h349 l2 3 fun a355 => f_X5_lastWrite E a355 x351 x352 h349 (fun x354 h353 =>
isT h353 l2 3 fun a358 => f_X5_thrown E a358 h353 (fun x357 h356 =>
cnd (x357 = x350) (cnd (x350 = (0:Int32)) (ldL h356 l3 3 (0:Int32) fun x359 =>
cnd ((lg_cmp x359 x354.toInt64) = (0:Int32)) (f_L_law_j1963 E Q K23 l0 l1 l2 l3 l4 h356) (K1961 h356)) (f_L_law_j1963 E Q K23 l0 l1 l2 l3 l4 h356)) (K1944 h356))))
def f_L_law_j1966 (E : Nat → Nat) (Q : Int32 → hH → Prop) (K23 : Option Nat → Option Nat → Option Nat → Option Nat → Int32 → hH → Prop) (K2025 : hH → Prop) (l0 : Option Nat) (l1 : Option Nat) (l2 : Option Nat) (l3 : Option Nat) (l4 : Int32) (h : hH) : Prop :=
ldIo h l0 (l4 + (1:Int32)) fun x360 =>
ldIo h l0 (l4 + (2:Int32)) fun x361 =>
ldIo h l0 (l4 + (3:Int32)) fun x362 =>
ldIo h l0 (l4 + (4:Int32)) fun x363 =>
isT h l1 0 fun a366 => f_X1_give E a366 x360 x361 x362 x363 h (fun x365 h364 =>
ldIo h364 l0 (l4 + (1:Int32)) fun x367 =>
ldIo h364 l0 (l4 + (2:Int32)) fun x368 =>
ldIo h364 l0 (l4 + (3:Int32)) fun x369 =>
ldIo h364 l0 (l4 + (4:Int32)) fun x370 =>
isT h364 l2 3 fun a373 => f_X5_give E a373 x367 x368 x369 x370 h364 (fun x372 h371 =>
cnd (x365 = x372) (K23 l0 l1 l2 l3 (l4 + (6:Int32)) h371) (K2025 h371)))
def f_L_law_j2027 (E : Nat → Nat) (Q : Int32 → hH → Prop) (K23 : Option Nat → Option Nat → Option Nat → Option Nat → Int32 → hH → Prop) (K2038 : hH → Prop) (l0 : Option Nat) (l1 : Option Nat) (l2 : Option Nat) (l3 : Option Nat) (l4 : Int32) (h : hH) : Prop :=
isT h l1 0 fun a376 => f_X1_seal E a376 h (fun x375 h374 =>
isT h374 l2 3 fun a379 => f_X5_seal E a379 h374 (fun x378 h377 =>
cnd (x375 = x378) (K23 l0 l1 l2 l3 (l4 + (6:Int32)) h377) (K2038 h377)))
def f_L_law_j2040 (E : Nat → Nat) (Q : Int32 → hH → Prop) (K23 : Option Nat → Option Nat → Option Nat → Option Nat → Int32 → hH → Prop) (K2075 : hH → Prop) (l0 : Option Nat) (l1 : Option Nat) (l2 : Option Nat) (l3 : Option Nat) (l4 : Int32) (h : hH) : Prop :=
ldIo h l0 (l4 + (1:Int32)) fun x380 =>
ldIo h l0 (l4 + (2:Int32)) fun x381 =>
isT h l1 0 fun a384 => f_X1_run E a384 x380 x381 h (fun x383 h382 =>
ldIo h382 l0 (l4 + (1:Int32)) fun x385 =>
ldIo h382 l0 (l4 + (2:Int32)) fun x386 =>
isT h382 l2 3 fun a389 => f_X5_run E a389 x385 x386 h382 (fun x388 h387 =>
cnd (x383 = x388) (K23 l0 l1 l2 l3 (l4 + (6:Int32)) h387) (K2075 h387)))
def f_L_law_j2077 (E : Nat → Nat) (Q : Int32 → hH → Prop) (K23 : Option Nat → Option Nat → Option Nat → Option Nat → Int32 → hH → Prop) (K2088 : hH → Prop) (l0 : Option Nat) (l1 : Option Nat) (l2 : Option Nat) (l3 : Option Nat) (l4 : Int32) (h : hH) : Prop :=
isT h l1 0 fun a392 => f_X1_tick E a392 h (fun x391 h390 =>
isT h390 l2 3 fun a395 => f_X5_tick E a395 h390 (fun x394 h393 =>
cnd (x391 = x394) (K23 l0 l1 l2 l3 (l4 + (6:Int32)) h393) (K2088 h393)))
def f_L_law_j2090 (E : Nat → Nat) (Q : Int32 → hH → Prop) (K23 : Option Nat → Option Nat → Option Nat → Option Nat → Int32 → hH → Prop) (K2149 : hH → Prop) (l0 : Option Nat) (l1 : Option Nat) (l2 : Option Nat) (l3 : Option Nat) (l4 : Int32) (h : hH) : Prop :=
ldIo h l0 (l4 + (1:Int32)) fun x396 =>
ldIo h l0 (l4 + (2:Int32)) fun x397 =>
ldIo h l0 (l4 + (3:Int32)) fun x398 =>
ldIo h l0 (l4 + (4:Int32)) fun x399 =>
isT h l1 0 fun a402 => f_X1_fault E a402 x396 x397 x398 x399 h (fun x401 h400 =>
ldIo h400 l0 (l4 + (1:Int32)) fun x403 =>
ldIo h400 l0 (l4 + (2:Int32)) fun x404 =>
ldIo h400 l0 (l4 + (3:Int32)) fun x405 =>
ldIo h400 l0 (l4 + (4:Int32)) fun x406 =>
isT h400 l2 3 fun a409 => f_X5_fault_2 E a409 x403 x404 x405 x406 h400 (fun x408 h407 =>
cnd (x401 = x408) (K23 l0 l1 l2 l3 (l4 + (6:Int32)) h407) (K2149 h407)))
def f_L_law_j2151 (E : Nat → Nat) (Q : Int32 → hH → Prop) (K23 : Option Nat → Option Nat → Option Nat → Option Nat → Int32 → hH → Prop) (K2174 : hH → Prop) (l0 : Option Nat) (l1 : Option Nat) (l2 : Option Nat) (l3 : Option Nat) (l4 : Int32) (h : hH) : Prop :=
ldIo h l0 (l4 + (1:Int32)) fun x410 =>
isT h l1 0 fun a413 => f_X1_heal E a413 x410 h (fun x412 h411 =>
ldIo h411 l0 (l4 + (1:Int32)) fun x414 =>
isT h411 l2 3 fun a417 => f_X5_heal E a417 x414 h411 (fun x416 h415 =>
cnd (x412 = x416) (K23 l0 l1 l2 l3 (l4 + (6:Int32)) h415) (K2174 h415)))
def f_L_law_j2176 (E : Nat → Nat) (Q : Int32 → hH → Prop) (K23 : Option Nat → Option Nat → Option Nat → Option Nat → Int32 → hH → Prop) (K2187 : hH → Prop) (l0 : Option Nat) (l1 : Option Nat) (l2 : Option Nat) (l3 : Option Nat) (l4 : Int32) (h : hH) : Prop :=
isT h l1 0 fun a420 => f_X1_healAll E a420 h (fun x419 h418 =>
isT h418 l2 3 fun a423 => f_X5_healAll E a423 h418 (fun x422 h421 =>
cnd (x419 = x422) (K23 l0 l1 l2 l3 (l4 + (6:Int32)) h421) (K2187 h421)))
def f_L_law_j2189 (E : Nat → Nat) (Q : Int32 → hH → Prop) (K23 : Option Nat → Option Nat → Option Nat → Option Nat → Int32 → hH → Prop) (K2212 : hH → Prop) (l0 : Option Nat) (l1 : Option Nat) (l2 : Option Nat) (l3 : Option Nat) (l4 : Int32) (h : hH) : Prop :=
ldIo h l0 (l4 + (1:Int32)) fun x424 =>
isT h l1 0 fun a427 => f_X1_join E a427 x424 h (fun x426 h425 =>
ldIo h425 l0 (l4 + (1:Int32)) fun x428 =>
isT h425 l2 3 fun a431 => f_X5_join E a431 x428 h425 (fun x430 h429 =>
cnd (x426 = x430) (K23 l0 l1 l2 l3 (l4 + (6:Int32)) h429) (K2212 h429)))
def f_L_law_j2214 (E : Nat → Nat) (Q : Int32 → hH → Prop) (K23 : Option Nat → Option Nat → Option Nat → Option Nat → Int32 → hH → Prop) (K2237 : hH → Prop) (l0 : Option Nat) (l1 : Option Nat) (l2 : Option Nat) (l3 : Option Nat) (l4 : Int32) (h : hH) : Prop :=
ldIo h l0 (l4 + (1:Int32)) fun x432 =>
isT h l1 0 fun a435 => f_X1_leave E a435 x432 h (fun x434 h433 =>
ldIo h433 l0 (l4 + (1:Int32)) fun x436 =>
isT h433 l2 3 fun a439 => f_X5_leave E a439 x436 h433 (fun x438 h437 =>
cnd (x434 = x438) (K23 l0 l1 l2 l3 (l4 + (6:Int32)) h437) (K2237 h437)))
def f_L_law_j2239 (E : Nat → Nat) (Q : Int32 → hH → Prop) (K23 : Option Nat → Option Nat → Option Nat → Option Nat → Int32 → hH → Prop) (K2274 : hH → Prop) (l0 : Option Nat) (l1 : Option Nat) (l2 : Option Nat) (l3 : Option Nat) (l4 : Int32) (h : hH) : Prop :=
ldIo h l0 (l4 + (1:Int32)) fun x440 =>
ldIo h l0 (l4 + (2:Int32)) fun x441 =>
isT h l1 0 fun a444 => f_X1_setSetting E a444 x440 x441 h (fun x443 h442 =>
ldIo h442 l0 (l4 + (1:Int32)) fun x445 =>
ldIo h442 l0 (l4 + (2:Int32)) fun x446 =>
isT h442 l2 3 fun a449 => f_X5_setSetting E a449 x445 x446 h442 (fun x448 h447 =>
cnd (x443 = x448) (K23 l0 l1 l2 l3 (l4 + (6:Int32)) h447) (K2274 h447)))
def f_L_law_j2276 (E : Nat → Nat) (Q : Int32 → hH → Prop) (K23 : Option Nat → Option Nat → Option Nat → Option Nat → Int32 → hH → Prop) (K2287 : hH → Prop) (l0 : Option Nat) (l1 : Option Nat) (l2 : Option Nat) (l3 : Option Nat) (l4 : Int32) (h : hH) : Prop :=
isT h l1 0 fun a452 => f_X1_undo E a452 h (fun x451 h450 =>
isT h450 l2 3 fun a455 => f_X5_undo E a455 h450 (fun x454 h453 =>
cnd (x451 = x454) (K23 l0 l1 l2 l3 (l4 + (6:Int32)) h453) (K2287 h453)))
def f_L_law_j2342 (E : Nat → Nat) (Q : Int32 → hH → Prop) (K23 : Option Nat → Option Nat → Option Nat → Option Nat → Int32 → hH → Prop) (l0 : Option Nat) (l1 : Option Nat) (l2 : Option Nat) (l3 : Option Nat) (l4 : Int32) (h : hH) : Prop :=
K23 l0 l1 l2 l3 (l4 + (6:Int32)) h
def f_L_law_j2289 (E : Nat → Nat) (Q : Int32 → hH → Prop) (K23 : Option Nat → Option Nat → Option Nat → Option Nat → Int32 → hH → Prop) (K2323 : hH → Prop) (K2340 : hH → Prop) (l0 : Option Nat) (l1 : Option Nat) (l2 : Option Nat) (l3 : Option Nat) (l4 : Int32) (h : hH) : Prop :=
ldIo h l0 (l4 + (1:Int32)) fun x456 =>
f_X0_write E l1 x456 l3 h (fun x458 h457 =>
ldIo h457 l0 (l4 + (1:Int32)) fun x459 =>
isT h457 l2 3 fun a462 => f_X5_write E a462 x459 h457 (fun x461 h460 =>
isT h460 l2 3 fun a465 => f_X5_thrown E a465 h460 (fun x464 h463 =>
cnd (x464 = x458) (cnd (x458 = (0:Int32)) (ldL h463 l3 3 (0:Int32) fun x466 =>
cnd ((lg_cmp x466 x461.toInt64) = (0:Int32)) (f_L_law_j2342 E Q K23 l0 l1 l2 l3 l4 h463) (K2340 h463)) (f_L_law_j2342 E Q K23 l0 l1 l2 l3 l4 h463)) (K2323 h463))))
def f_L_law_j2345 (E : Nat → Nat) (Q : Int32 → hH → Prop) (K23 : Option Nat → Option Nat → Option Nat → Option Nat → Int32 → hH → Prop) (K2368 : hH → Prop) (l0 : Option Nat) (l1 : Option Nat) (l2 : Option Nat) (l3 : Option Nat) (l4 : Int32) (h : hH) : Prop :=
ldIo h l0 (l4 + (1:Int32)) fun x467 =>
isT h l1 0 fun a470 => f_X1_outputAt E a470 x467 h (fun x469 h468 =>
ldIo h468 l0 (l4 + (1:Int32)) fun x471 =>
isT h468 l2 3 fun a474 => f_X5_outputAt E a474 x471 h468 (fun x473 h472 =>
cnd (x469 = x473) (K23 l0 l1 l2 l3 (l4 + (6:Int32)) h472) (K2368 h472)))
def f_L_law_l23 (E : Nat → Nat) (Q : Int32 → hH → Prop) (K311 : hH → Prop) (K336 : hH → Prop) (K349 : hH → Prop) (K374 : hH → Prop) (K387 : hH → Prop) (K412 : hH → Prop) (K460 : hH → Prop) (K477 : hH → Prop) (K505 : hH → Prop) (K553 : hH → Prop) (K570 : hH → Prop) (K609 : hH → Prop) (K626 : hH → Prop) (K689 : hH → Prop) (K706 : hH → Prop) (K757 : hH → Prop) (K774 : hH → Prop) (K825 : hH → Prop) (K842 : hH → Prop) (K893 : hH → Prop) (K910 : hH → Prop) (K961 : hH → Prop) (K978 : hH → Prop) (K1029 : hH → Prop) (K1046 : hH → Prop) (K1097 : hH → Prop) (K1121 : hH → Prop) (K1172 : hH → Prop) (K1189 : hH → Prop) (K1240 : hH → Prop) (K1257 : hH → Prop) (K1308 : hH → Prop) (K1325 : hH → Prop) (K1376 : hH → Prop) (K1393 : hH → Prop) (K1421 : hH → Prop) (K1457 : hH → Prop) (K1481 : hH → Prop) (K1497 : hH → Prop) (K1533 : hH → Prop) (K1550 : hH → Prop) (K1589 : hH → Prop) (K1606 : hH → Prop) (K1650 : hH → Prop) (K1686 : hH → Prop) (K1703 : hH → Prop) (K1744 : hH → Prop) (K1795 : hH → Prop) (K1812 : hH → Prop) (K1828 : hH → Prop) (K1876 : hH → Prop) (K1893 : hH → Prop) (K1944 : hH → Prop) (K1961 : hH → Prop) (K2025 : hH → Prop) (K2038 : hH → Prop) (K2075 : hH → Prop) (K2088 : hH → Prop) (K2149 : hH → Prop) (K2174 : hH → Prop) (K2187 : hH → Prop) (K2212 : hH → Prop) (K2237 : hH → Prop) (K2274 : hH → Prop) (K2287 : hH → Prop) (K2323 : hH → Prop) (K2340 : hH → Prop) (K2368 : hH → Prop) (K2376 : hH → Prop) : Nat → Option Nat → Option Nat → Option Nat → Option Nat → Int32 → hH → Prop
  | 0, _, _, _, _, _, _ => False
  | n + 1, l0, l1, l2, l3, l4, h => aLno h l0 fun x475 =>
cnd ((x475 - (6:Int32)) < l4) (K2376 h) (ldIo h l0 l4 fun x476 =>
cnd ((x476 &&& (63:Int32)) = (0:Int32)) (f_L_law_j240 E Q (f_L_law_l23 E Q K311 K336 K349 K374 K387 K412 K460 K477 K505 K553 K570 K609 K626 K689 K706 K757 K774 K825 K842 K893 K910 K961 K978 K1029 K1046 K1097 K1121 K1172 K1189 K1240 K1257 K1308 K1325 K1376 K1393 K1421 K1457 K1481 K1497 K1533 K1550 K1589 K1606 K1650 K1686 K1703 K1744 K1795 K1812 K1828 K1876 K1893 K1944 K1961 K2025 K2038 K2075 K2088 K2149 K2174 K2187 K2212 K2237 K2274 K2287 K2323 K2340 K2368 K2376 n) K311 l0 l1 l2 l3 l4 h) <| cnd ((x476 &&& (63:Int32)) = (1:Int32)) (f_L_law_j313 E Q (f_L_law_l23 E Q K311 K336 K349 K374 K387 K412 K460 K477 K505 K553 K570 K609 K626 K689 K706 K757 K774 K825 K842 K893 K910 K961 K978 K1029 K1046 K1097 K1121 K1172 K1189 K1240 K1257 K1308 K1325 K1376 K1393 K1421 K1457 K1481 K1497 K1533 K1550 K1589 K1606 K1650 K1686 K1703 K1744 K1795 K1812 K1828 K1876 K1893 K1944 K1961 K2025 K2038 K2075 K2088 K2149 K2174 K2187 K2212 K2237 K2274 K2287 K2323 K2340 K2368 K2376 n) K336 l0 l1 l2 l3 l4 h) <| cnd ((x476 &&& (63:Int32)) = (2:Int32)) (f_L_law_j338 E Q (f_L_law_l23 E Q K311 K336 K349 K374 K387 K412 K460 K477 K505 K553 K570 K609 K626 K689 K706 K757 K774 K825 K842 K893 K910 K961 K978 K1029 K1046 K1097 K1121 K1172 K1189 K1240 K1257 K1308 K1325 K1376 K1393 K1421 K1457 K1481 K1497 K1533 K1550 K1589 K1606 K1650 K1686 K1703 K1744 K1795 K1812 K1828 K1876 K1893 K1944 K1961 K2025 K2038 K2075 K2088 K2149 K2174 K2187 K2212 K2237 K2274 K2287 K2323 K2340 K2368 K2376 n) K349 l0 l1 l2 l3 l4 h) <| cnd ((x476 &&& (63:Int32)) = (3:Int32)) (f_L_law_j351 E Q (f_L_law_l23 E Q K311 K336 K349 K374 K387 K412 K460 K477 K505 K553 K570 K609 K626 K689 K706 K757 K774 K825 K842 K893 K910 K961 K978 K1029 K1046 K1097 K1121 K1172 K1189 K1240 K1257 K1308 K1325 K1376 K1393 K1421 K1457 K1481 K1497 K1533 K1550 K1589 K1606 K1650 K1686 K1703 K1744 K1795 K1812 K1828 K1876 K1893 K1944 K1961 K2025 K2038 K2075 K2088 K2149 K2174 K2187 K2212 K2237 K2274 K2287 K2323 K2340 K2368 K2376 n) K374 l0 l1 l2 l3 l4 h) <| cnd ((x476 &&& (63:Int32)) = (4:Int32)) (f_L_law_j376 E Q (f_L_law_l23 E Q K311 K336 K349 K374 K387 K412 K460 K477 K505 K553 K570 K609 K626 K689 K706 K757 K774 K825 K842 K893 K910 K961 K978 K1029 K1046 K1097 K1121 K1172 K1189 K1240 K1257 K1308 K1325 K1376 K1393 K1421 K1457 K1481 K1497 K1533 K1550 K1589 K1606 K1650 K1686 K1703 K1744 K1795 K1812 K1828 K1876 K1893 K1944 K1961 K2025 K2038 K2075 K2088 K2149 K2174 K2187 K2212 K2237 K2274 K2287 K2323 K2340 K2368 K2376 n) K387 l0 l1 l2 l3 l4 h) <| cnd ((x476 &&& (63:Int32)) = (5:Int32)) (f_L_law_j389 E Q (f_L_law_l23 E Q K311 K336 K349 K374 K387 K412 K460 K477 K505 K553 K570 K609 K626 K689 K706 K757 K774 K825 K842 K893 K910 K961 K978 K1029 K1046 K1097 K1121 K1172 K1189 K1240 K1257 K1308 K1325 K1376 K1393 K1421 K1457 K1481 K1497 K1533 K1550 K1589 K1606 K1650 K1686 K1703 K1744 K1795 K1812 K1828 K1876 K1893 K1944 K1961 K2025 K2038 K2075 K2088 K2149 K2174 K2187 K2212 K2237 K2274 K2287 K2323 K2340 K2368 K2376 n) K412 l0 l1 l2 l3 l4 h) <| cnd ((x476 &&& (63:Int32)) = (6:Int32)) (f_L_law_j414 E Q (f_L_law_l23 E Q K311 K336 K349 K374 K387 K412 K460 K477 K505 K553 K570 K609 K626 K689 K706 K757 K774 K825 K842 K893 K910 K961 K978 K1029 K1046 K1097 K1121 K1172 K1189 K1240 K1257 K1308 K1325 K1376 K1393 K1421 K1457 K1481 K1497 K1533 K1550 K1589 K1606 K1650 K1686 K1703 K1744 K1795 K1812 K1828 K1876 K1893 K1944 K1961 K2025 K2038 K2075 K2088 K2149 K2174 K2187 K2212 K2237 K2274 K2287 K2323 K2340 K2368 K2376 n) K460 K477 l0 l1 l2 l3 l4 h) <| cnd ((x476 &&& (63:Int32)) = (7:Int32)) (f_L_law_j482 E Q (f_L_law_l23 E Q K311 K336 K349 K374 K387 K412 K460 K477 K505 K553 K570 K609 K626 K689 K706 K757 K774 K825 K842 K893 K910 K961 K978 K1029 K1046 K1097 K1121 K1172 K1189 K1240 K1257 K1308 K1325 K1376 K1393 K1421 K1457 K1481 K1497 K1533 K1550 K1589 K1606 K1650 K1686 K1703 K1744 K1795 K1812 K1828 K1876 K1893 K1944 K1961 K2025 K2038 K2075 K2088 K2149 K2174 K2187 K2212 K2237 K2274 K2287 K2323 K2340 K2368 K2376 n) K505 l0 l1 l2 l3 l4 h) <| cnd ((x476 &&& (63:Int32)) = (8:Int32)) (f_L_law_j507 E Q (f_L_law_l23 E Q K311 K336 K349 K374 K387 K412 K460 K477 K505 K553 K570 K609 K626 K689 K706 K757 K774 K825 K842 K893 K910 K961 K978 K1029 K1046 K1097 K1121 K1172 K1189 K1240 K1257 K1308 K1325 K1376 K1393 K1421 K1457 K1481 K1497 K1533 K1550 K1589 K1606 K1650 K1686 K1703 K1744 K1795 K1812 K1828 K1876 K1893 K1944 K1961 K2025 K2038 K2075 K2088 K2149 K2174 K2187 K2212 K2237 K2274 K2287 K2323 K2340 K2368 K2376 n) K553 K570 l0 l1 l2 l3 l4 h) <| cnd ((x476 &&& (63:Int32)) = (9:Int32)) (f_L_law_j575 E Q (f_L_law_l23 E Q K311 K336 K349 K374 K387 K412 K460 K477 K505 K553 K570 K609 K626 K689 K706 K757 K774 K825 K842 K893 K910 K961 K978 K1029 K1046 K1097 K1121 K1172 K1189 K1240 K1257 K1308 K1325 K1376 K1393 K1421 K1457 K1481 K1497 K1533 K1550 K1589 K1606 K1650 K1686 K1703 K1744 K1795 K1812 K1828 K1876 K1893 K1944 K1961 K2025 K2038 K2075 K2088 K2149 K2174 K2187 K2212 K2237 K2274 K2287 K2323 K2340 K2368 K2376 n) K609 K626 l0 l1 l2 l3 l4 h) <| cnd ((x476 &&& (63:Int32)) = (10:Int32)) (f_L_law_j631 E Q (f_L_law_l23 E Q K311 K336 K349 K374 K387 K412 K460 K477 K505 K553 K570 K609 K626 K689 K706 K757 K774 K825 K842 K893 K910 K961 K978 K1029 K1046 K1097 K1121 K1172 K1189 K1240 K1257 K1308 K1325 K1376 K1393 K1421 K1457 K1481 K1497 K1533 K1550 K1589 K1606 K1650 K1686 K1703 K1744 K1795 K1812 K1828 K1876 K1893 K1944 K1961 K2025 K2038 K2075 K2088 K2149 K2174 K2187 K2212 K2237 K2274 K2287 K2323 K2340 K2368 K2376 n) K689 K706 l0 l1 l2 l3 l4 h) <| cnd ((x476 &&& (63:Int32)) = (11:Int32)) (f_L_law_j711 E Q (f_L_law_l23 E Q K311 K336 K349 K374 K387 K412 K460 K477 K505 K553 K570 K609 K626 K689 K706 K757 K774 K825 K842 K893 K910 K961 K978 K1029 K1046 K1097 K1121 K1172 K1189 K1240 K1257 K1308 K1325 K1376 K1393 K1421 K1457 K1481 K1497 K1533 K1550 K1589 K1606 K1650 K1686 K1703 K1744 K1795 K1812 K1828 K1876 K1893 K1944 K1961 K2025 K2038 K2075 K2088 K2149 K2174 K2187 K2212 K2237 K2274 K2287 K2323 K2340 K2368 K2376 n) K757 K774 l0 l1 l2 l3 l4 h) <| cnd ((x476 &&& (63:Int32)) = (12:Int32)) (f_L_law_j779 E Q (f_L_law_l23 E Q K311 K336 K349 K374 K387 K412 K460 K477 K505 K553 K570 K609 K626 K689 K706 K757 K774 K825 K842 K893 K910 K961 K978 K1029 K1046 K1097 K1121 K1172 K1189 K1240 K1257 K1308 K1325 K1376 K1393 K1421 K1457 K1481 K1497 K1533 K1550 K1589 K1606 K1650 K1686 K1703 K1744 K1795 K1812 K1828 K1876 K1893 K1944 K1961 K2025 K2038 K2075 K2088 K2149 K2174 K2187 K2212 K2237 K2274 K2287 K2323 K2340 K2368 K2376 n) K825 K842 l0 l1 l2 l3 l4 h) <| cnd ((x476 &&& (63:Int32)) = (13:Int32)) (f_L_law_j847 E Q (f_L_law_l23 E Q K311 K336 K349 K374 K387 K412 K460 K477 K505 K553 K570 K609 K626 K689 K706 K757 K774 K825 K842 K893 K910 K961 K978 K1029 K1046 K1097 K1121 K1172 K1189 K1240 K1257 K1308 K1325 K1376 K1393 K1421 K1457 K1481 K1497 K1533 K1550 K1589 K1606 K1650 K1686 K1703 K1744 K1795 K1812 K1828 K1876 K1893 K1944 K1961 K2025 K2038 K2075 K2088 K2149 K2174 K2187 K2212 K2237 K2274 K2287 K2323 K2340 K2368 K2376 n) K893 K910 l0 l1 l2 l3 l4 h) <| cnd ((x476 &&& (63:Int32)) = (14:Int32)) (f_L_law_j915 E Q (f_L_law_l23 E Q K311 K336 K349 K374 K387 K412 K460 K477 K505 K553 K570 K609 K626 K689 K706 K757 K774 K825 K842 K893 K910 K961 K978 K1029 K1046 K1097 K1121 K1172 K1189 K1240 K1257 K1308 K1325 K1376 K1393 K1421 K1457 K1481 K1497 K1533 K1550 K1589 K1606 K1650 K1686 K1703 K1744 K1795 K1812 K1828 K1876 K1893 K1944 K1961 K2025 K2038 K2075 K2088 K2149 K2174 K2187 K2212 K2237 K2274 K2287 K2323 K2340 K2368 K2376 n) K961 K978 l0 l1 l2 l3 l4 h) <| cnd ((x476 &&& (63:Int32)) = (15:Int32)) (f_L_law_j983 E Q (f_L_law_l23 E Q K311 K336 K349 K374 K387 K412 K460 K477 K505 K553 K570 K609 K626 K689 K706 K757 K774 K825 K842 K893 K910 K961 K978 K1029 K1046 K1097 K1121 K1172 K1189 K1240 K1257 K1308 K1325 K1376 K1393 K1421 K1457 K1481 K1497 K1533 K1550 K1589 K1606 K1650 K1686 K1703 K1744 K1795 K1812 K1828 K1876 K1893 K1944 K1961 K2025 K2038 K2075 K2088 K2149 K2174 K2187 K2212 K2237 K2274 K2287 K2323 K2340 K2368 K2376 n) K1029 K1046 l0 l1 l2 l3 l4 h) <| cnd ((x476 &&& (63:Int32)) = (16:Int32)) (f_L_law_j1051 E Q (f_L_law_l23 E Q K311 K336 K349 K374 K387 K412 K460 K477 K505 K553 K570 K609 K626 K689 K706 K757 K774 K825 K842 K893 K910 K961 K978 K1029 K1046 K1097 K1121 K1172 K1189 K1240 K1257 K1308 K1325 K1376 K1393 K1421 K1457 K1481 K1497 K1533 K1550 K1589 K1606 K1650 K1686 K1703 K1744 K1795 K1812 K1828 K1876 K1893 K1944 K1961 K2025 K2038 K2075 K2088 K2149 K2174 K2187 K2212 K2237 K2274 K2287 K2323 K2340 K2368 K2376 n) K1097 K1121 l0 l1 l2 l3 l4 h) <| cnd ((x476 &&& (63:Int32)) = (17:Int32)) (f_L_law_j1126 E Q (f_L_law_l23 E Q K311 K336 K349 K374 K387 K412 K460 K477 K505 K553 K570 K609 K626 K689 K706 K757 K774 K825 K842 K893 K910 K961 K978 K1029 K1046 K1097 K1121 K1172 K1189 K1240 K1257 K1308 K1325 K1376 K1393 K1421 K1457 K1481 K1497 K1533 K1550 K1589 K1606 K1650 K1686 K1703 K1744 K1795 K1812 K1828 K1876 K1893 K1944 K1961 K2025 K2038 K2075 K2088 K2149 K2174 K2187 K2212 K2237 K2274 K2287 K2323 K2340 K2368 K2376 n) K1172 K1189 l0 l1 l2 l3 l4 h) <| cnd ((x476 &&& (63:Int32)) = (18:Int32)) (f_L_law_j1194 E Q (f_L_law_l23 E Q K311 K336 K349 K374 K387 K412 K460 K477 K505 K553 K570 K609 K626 K689 K706 K757 K774 K825 K842 K893 K910 K961 K978 K1029 K1046 K1097 K1121 K1172 K1189 K1240 K1257 K1308 K1325 K1376 K1393 K1421 K1457 K1481 K1497 K1533 K1550 K1589 K1606 K1650 K1686 K1703 K1744 K1795 K1812 K1828 K1876 K1893 K1944 K1961 K2025 K2038 K2075 K2088 K2149 K2174 K2187 K2212 K2237 K2274 K2287 K2323 K2340 K2368 K2376 n) K1240 K1257 l0 l1 l2 l3 l4 h) <| cnd ((x476 &&& (63:Int32)) = (19:Int32)) (f_L_law_j1262 E Q (f_L_law_l23 E Q K311 K336 K349 K374 K387 K412 K460 K477 K505 K553 K570 K609 K626 K689 K706 K757 K774 K825 K842 K893 K910 K961 K978 K1029 K1046 K1097 K1121 K1172 K1189 K1240 K1257 K1308 K1325 K1376 K1393 K1421 K1457 K1481 K1497 K1533 K1550 K1589 K1606 K1650 K1686 K1703 K1744 K1795 K1812 K1828 K1876 K1893 K1944 K1961 K2025 K2038 K2075 K2088 K2149 K2174 K2187 K2212 K2237 K2274 K2287 K2323 K2340 K2368 K2376 n) K1308 K1325 l0 l1 l2 l3 l4 h) <| cnd ((x476 &&& (63:Int32)) = (20:Int32)) (f_L_law_j1330 E Q (f_L_law_l23 E Q K311 K336 K349 K374 K387 K412 K460 K477 K505 K553 K570 K609 K626 K689 K706 K757 K774 K825 K842 K893 K910 K961 K978 K1029 K1046 K1097 K1121 K1172 K1189 K1240 K1257 K1308 K1325 K1376 K1393 K1421 K1457 K1481 K1497 K1533 K1550 K1589 K1606 K1650 K1686 K1703 K1744 K1795 K1812 K1828 K1876 K1893 K1944 K1961 K2025 K2038 K2075 K2088 K2149 K2174 K2187 K2212 K2237 K2274 K2287 K2323 K2340 K2368 K2376 n) K1376 K1393 l0 l1 l2 l3 l4 h) <| cnd ((x476 &&& (63:Int32)) = (21:Int32)) (f_L_law_j1398 E Q (f_L_law_l23 E Q K311 K336 K349 K374 K387 K412 K460 K477 K505 K553 K570 K609 K626 K689 K706 K757 K774 K825 K842 K893 K910 K961 K978 K1029 K1046 K1097 K1121 K1172 K1189 K1240 K1257 K1308 K1325 K1376 K1393 K1421 K1457 K1481 K1497 K1533 K1550 K1589 K1606 K1650 K1686 K1703 K1744 K1795 K1812 K1828 K1876 K1893 K1944 K1961 K2025 K2038 K2075 K2088 K2149 K2174 K2187 K2212 K2237 K2274 K2287 K2323 K2340 K2368 K2376 n) K1421 l0 l1 l2 l3 l4 h) <| cnd ((x476 &&& (63:Int32)) = (22:Int32)) (f_L_law_j1423 E Q (f_L_law_l23 E Q K311 K336 K349 K374 K387 K412 K460 K477 K505 K553 K570 K609 K626 K689 K706 K757 K774 K825 K842 K893 K910 K961 K978 K1029 K1046 K1097 K1121 K1172 K1189 K1240 K1257 K1308 K1325 K1376 K1393 K1421 K1457 K1481 K1497 K1533 K1550 K1589 K1606 K1650 K1686 K1703 K1744 K1795 K1812 K1828 K1876 K1893 K1944 K1961 K2025 K2038 K2075 K2088 K2149 K2174 K2187 K2212 K2237 K2274 K2287 K2323 K2340 K2368 K2376 n) K1457 K1481 l0 l1 l2 l3 l4 h) <| cnd ((x476 &&& (63:Int32)) = (23:Int32)) (f_L_law_j1486 E Q (f_L_law_l23 E Q K311 K336 K349 K374 K387 K412 K460 K477 K505 K553 K570 K609 K626 K689 K706 K757 K774 K825 K842 K893 K910 K961 K978 K1029 K1046 K1097 K1121 K1172 K1189 K1240 K1257 K1308 K1325 K1376 K1393 K1421 K1457 K1481 K1497 K1533 K1550 K1589 K1606 K1650 K1686 K1703 K1744 K1795 K1812 K1828 K1876 K1893 K1944 K1961 K2025 K2038 K2075 K2088 K2149 K2174 K2187 K2212 K2237 K2274 K2287 K2323 K2340 K2368 K2376 n) K1497 l0 l1 l2 l3 l4 h) <| cnd ((x476 &&& (63:Int32)) = (24:Int32)) (f_L_law_j1499 E Q (f_L_law_l23 E Q K311 K336 K349 K374 K387 K412 K460 K477 K505 K553 K570 K609 K626 K689 K706 K757 K774 K825 K842 K893 K910 K961 K978 K1029 K1046 K1097 K1121 K1172 K1189 K1240 K1257 K1308 K1325 K1376 K1393 K1421 K1457 K1481 K1497 K1533 K1550 K1589 K1606 K1650 K1686 K1703 K1744 K1795 K1812 K1828 K1876 K1893 K1944 K1961 K2025 K2038 K2075 K2088 K2149 K2174 K2187 K2212 K2237 K2274 K2287 K2323 K2340 K2368 K2376 n) K1533 K1550 l0 l1 l2 l3 l4 h) <| cnd ((x476 &&& (63:Int32)) = (25:Int32)) (f_L_law_j1555 E Q (f_L_law_l23 E Q K311 K336 K349 K374 K387 K412 K460 K477 K505 K553 K570 K609 K626 K689 K706 K757 K774 K825 K842 K893 K910 K961 K978 K1029 K1046 K1097 K1121 K1172 K1189 K1240 K1257 K1308 K1325 K1376 K1393 K1421 K1457 K1481 K1497 K1533 K1550 K1589 K1606 K1650 K1686 K1703 K1744 K1795 K1812 K1828 K1876 K1893 K1944 K1961 K2025 K2038 K2075 K2088 K2149 K2174 K2187 K2212 K2237 K2274 K2287 K2323 K2340 K2368 K2376 n) K1589 K1606 l0 l1 l2 l3 l4 h) <| cnd ((x476 &&& (63:Int32)) = (26:Int32)) (f_L_law_j1611 E Q (f_L_law_l23 E Q K311 K336 K349 K374 K387 K412 K460 K477 K505 K553 K570 K609 K626 K689 K706 K757 K774 K825 K842 K893 K910 K961 K978 K1029 K1046 K1097 K1121 K1172 K1189 K1240 K1257 K1308 K1325 K1376 K1393 K1421 K1457 K1481 K1497 K1533 K1550 K1589 K1606 K1650 K1686 K1703 K1744 K1795 K1812 K1828 K1876 K1893 K1944 K1961 K2025 K2038 K2075 K2088 K2149 K2174 K2187 K2212 K2237 K2274 K2287 K2323 K2340 K2368 K2376 n) K1650 l0 l1 l2 l3 l4 h) <| cnd ((x476 &&& (63:Int32)) = (27:Int32)) (f_L_law_j1652 E Q (f_L_law_l23 E Q K311 K336 K349 K374 K387 K412 K460 K477 K505 K553 K570 K609 K626 K689 K706 K757 K774 K825 K842 K893 K910 K961 K978 K1029 K1046 K1097 K1121 K1172 K1189 K1240 K1257 K1308 K1325 K1376 K1393 K1421 K1457 K1481 K1497 K1533 K1550 K1589 K1606 K1650 K1686 K1703 K1744 K1795 K1812 K1828 K1876 K1893 K1944 K1961 K2025 K2038 K2075 K2088 K2149 K2174 K2187 K2212 K2237 K2274 K2287 K2323 K2340 K2368 K2376 n) K1686 K1703 l0 l1 l2 l3 l4 h) <| cnd ((x476 &&& (63:Int32)) = (28:Int32)) (f_L_law_j1708 E Q (f_L_law_l23 E Q K311 K336 K349 K374 K387 K412 K460 K477 K505 K553 K570 K609 K626 K689 K706 K757 K774 K825 K842 K893 K910 K961 K978 K1029 K1046 K1097 K1121 K1172 K1189 K1240 K1257 K1308 K1325 K1376 K1393 K1421 K1457 K1481 K1497 K1533 K1550 K1589 K1606 K1650 K1686 K1703 K1744 K1795 K1812 K1828 K1876 K1893 K1944 K1961 K2025 K2038 K2075 K2088 K2149 K2174 K2187 K2212 K2237 K2274 K2287 K2323 K2340 K2368 K2376 n) K1744 l0 l1 l2 l3 l4 h) <| cnd ((x476 &&& (63:Int32)) = (29:Int32)) (f_L_law_j1749 E Q (f_L_law_l23 E Q K311 K336 K349 K374 K387 K412 K460 K477 K505 K553 K570 K609 K626 K689 K706 K757 K774 K825 K842 K893 K910 K961 K978 K1029 K1046 K1097 K1121 K1172 K1189 K1240 K1257 K1308 K1325 K1376 K1393 K1421 K1457 K1481 K1497 K1533 K1550 K1589 K1606 K1650 K1686 K1703 K1744 K1795 K1812 K1828 K1876 K1893 K1944 K1961 K2025 K2038 K2075 K2088 K2149 K2174 K2187 K2212 K2237 K2274 K2287 K2323 K2340 K2368 K2376 n) K1795 K1812 l0 l1 l2 l3 l4 h) <| cnd ((x476 &&& (63:Int32)) = (30:Int32)) (f_L_law_j1817 E Q (f_L_law_l23 E Q K311 K336 K349 K374 K387 K412 K460 K477 K505 K553 K570 K609 K626 K689 K706 K757 K774 K825 K842 K893 K910 K961 K978 K1029 K1046 K1097 K1121 K1172 K1189 K1240 K1257 K1308 K1325 K1376 K1393 K1421 K1457 K1481 K1497 K1533 K1550 K1589 K1606 K1650 K1686 K1703 K1744 K1795 K1812 K1828 K1876 K1893 K1944 K1961 K2025 K2038 K2075 K2088 K2149 K2174 K2187 K2212 K2237 K2274 K2287 K2323 K2340 K2368 K2376 n) K1828 l0 l1 l2 l3 l4 h) <| cnd ((x476 &&& (63:Int32)) = (31:Int32)) (f_L_law_j1830 E Q (f_L_law_l23 E Q K311 K336 K349 K374 K387 K412 K460 K477 K505 K553 K570 K609 K626 K689 K706 K757 K774 K825 K842 K893 K910 K961 K978 K1029 K1046 K1097 K1121 K1172 K1189 K1240 K1257 K1308 K1325 K1376 K1393 K1421 K1457 K1481 K1497 K1533 K1550 K1589 K1606 K1650 K1686 K1703 K1744 K1795 K1812 K1828 K1876 K1893 K1944 K1961 K2025 K2038 K2075 K2088 K2149 K2174 K2187 K2212 K2237 K2274 K2287 K2323 K2340 K2368 K2376 n) K1876 K1893 l0 l1 l2 l3 l4 h) <| cnd ((x476 &&& (63:Int32)) = (32:Int32)) (f_L_law_j1898 E Q (f_L_law_l23 E Q K311 K336 K349 K374 K387 K412 K460 K477 K505 K553 K570 K609 K626 K689 K706 K757 K774 K825 K842 K893 K910 K961 K978 K1029 K1046 K1097 K1121 K1172 K1189 K1240 K1257 K1308 K1325 K1376 K1393 K1421 K1457 K1481 K1497 K1533 K1550 K1589 K1606 K1650 K1686 K1703 K1744 K1795 K1812 K1828 K1876 K1893 K1944 K1961 K2025 K2038 K2075 K2088 K2149 K2174 K2187 K2212 K2237 K2274 K2287 K2323 K2340 K2368 K2376 n) K1944 K1961 l0 l1 l2 l3 l4 h) <| cnd ((x476 &&& (63:Int32)) = (33:Int32)) (f_L_law_j1966 E Q (f_L_law_l23 E Q K311 K336 K349 K374 K387 K412 K460 K477 K505 K553 K570 K609 K626 K689 K706 K757 K774 K825 K842 K893 K910 K961 K978 K1029 K1046 K1097 K1121 K1172 K1189 K1240 K1257 K1308 K1325 K1376 K1393 K1421 K1457 K1481 K1497 K1533 K1550 K1589 K1606 K1650 K1686 K1703 K1744 K1795 K1812 K1828 K1876 K1893 K1944 K1961 K2025 K2038 K2075 K2088 K2149 K2174 K2187 K2212 K2237 K2274 K2287 K2323 K2340 K2368 K2376 n) K2025 l0 l1 l2 l3 l4 h) <| cnd ((x476 &&& (63:Int32)) = (34:Int32)) (f_L_law_j2027 E Q (f_L_law_l23 E Q K311 K336 K349 K374 K387 K412 K460 K477 K505 K553 K570 K609 K626 K689 K706 K757 K774 K825 K842 K893 K910 K961 K978 K1029 K1046 K1097 K1121 K1172 K1189 K1240 K1257 K1308 K1325 K1376 K1393 K1421 K1457 K1481 K1497 K1533 K1550 K1589 K1606 K1650 K1686 K1703 K1744 K1795 K1812 K1828 K1876 K1893 K1944 K1961 K2025 K2038 K2075 K2088 K2149 K2174 K2187 K2212 K2237 K2274 K2287 K2323 K2340 K2368 K2376 n) K2038 l0 l1 l2 l3 l4 h) <| cnd ((x476 &&& (63:Int32)) = (35:Int32)) (f_L_law_j2040 E Q (f_L_law_l23 E Q K311 K336 K349 K374 K387 K412 K460 K477 K505 K553 K570 K609 K626 K689 K706 K757 K774 K825 K842 K893 K910 K961 K978 K1029 K1046 K1097 K1121 K1172 K1189 K1240 K1257 K1308 K1325 K1376 K1393 K1421 K1457 K1481 K1497 K1533 K1550 K1589 K1606 K1650 K1686 K1703 K1744 K1795 K1812 K1828 K1876 K1893 K1944 K1961 K2025 K2038 K2075 K2088 K2149 K2174 K2187 K2212 K2237 K2274 K2287 K2323 K2340 K2368 K2376 n) K2075 l0 l1 l2 l3 l4 h) <| cnd ((x476 &&& (63:Int32)) = (36:Int32)) (f_L_law_j2077 E Q (f_L_law_l23 E Q K311 K336 K349 K374 K387 K412 K460 K477 K505 K553 K570 K609 K626 K689 K706 K757 K774 K825 K842 K893 K910 K961 K978 K1029 K1046 K1097 K1121 K1172 K1189 K1240 K1257 K1308 K1325 K1376 K1393 K1421 K1457 K1481 K1497 K1533 K1550 K1589 K1606 K1650 K1686 K1703 K1744 K1795 K1812 K1828 K1876 K1893 K1944 K1961 K2025 K2038 K2075 K2088 K2149 K2174 K2187 K2212 K2237 K2274 K2287 K2323 K2340 K2368 K2376 n) K2088 l0 l1 l2 l3 l4 h) <| cnd ((x476 &&& (63:Int32)) = (37:Int32)) (f_L_law_j2090 E Q (f_L_law_l23 E Q K311 K336 K349 K374 K387 K412 K460 K477 K505 K553 K570 K609 K626 K689 K706 K757 K774 K825 K842 K893 K910 K961 K978 K1029 K1046 K1097 K1121 K1172 K1189 K1240 K1257 K1308 K1325 K1376 K1393 K1421 K1457 K1481 K1497 K1533 K1550 K1589 K1606 K1650 K1686 K1703 K1744 K1795 K1812 K1828 K1876 K1893 K1944 K1961 K2025 K2038 K2075 K2088 K2149 K2174 K2187 K2212 K2237 K2274 K2287 K2323 K2340 K2368 K2376 n) K2149 l0 l1 l2 l3 l4 h) <| cnd ((x476 &&& (63:Int32)) = (38:Int32)) (f_L_law_j2151 E Q (f_L_law_l23 E Q K311 K336 K349 K374 K387 K412 K460 K477 K505 K553 K570 K609 K626 K689 K706 K757 K774 K825 K842 K893 K910 K961 K978 K1029 K1046 K1097 K1121 K1172 K1189 K1240 K1257 K1308 K1325 K1376 K1393 K1421 K1457 K1481 K1497 K1533 K1550 K1589 K1606 K1650 K1686 K1703 K1744 K1795 K1812 K1828 K1876 K1893 K1944 K1961 K2025 K2038 K2075 K2088 K2149 K2174 K2187 K2212 K2237 K2274 K2287 K2323 K2340 K2368 K2376 n) K2174 l0 l1 l2 l3 l4 h) <| cnd ((x476 &&& (63:Int32)) = (39:Int32)) (f_L_law_j2176 E Q (f_L_law_l23 E Q K311 K336 K349 K374 K387 K412 K460 K477 K505 K553 K570 K609 K626 K689 K706 K757 K774 K825 K842 K893 K910 K961 K978 K1029 K1046 K1097 K1121 K1172 K1189 K1240 K1257 K1308 K1325 K1376 K1393 K1421 K1457 K1481 K1497 K1533 K1550 K1589 K1606 K1650 K1686 K1703 K1744 K1795 K1812 K1828 K1876 K1893 K1944 K1961 K2025 K2038 K2075 K2088 K2149 K2174 K2187 K2212 K2237 K2274 K2287 K2323 K2340 K2368 K2376 n) K2187 l0 l1 l2 l3 l4 h) <| cnd ((x476 &&& (63:Int32)) = (40:Int32)) (f_L_law_j2189 E Q (f_L_law_l23 E Q K311 K336 K349 K374 K387 K412 K460 K477 K505 K553 K570 K609 K626 K689 K706 K757 K774 K825 K842 K893 K910 K961 K978 K1029 K1046 K1097 K1121 K1172 K1189 K1240 K1257 K1308 K1325 K1376 K1393 K1421 K1457 K1481 K1497 K1533 K1550 K1589 K1606 K1650 K1686 K1703 K1744 K1795 K1812 K1828 K1876 K1893 K1944 K1961 K2025 K2038 K2075 K2088 K2149 K2174 K2187 K2212 K2237 K2274 K2287 K2323 K2340 K2368 K2376 n) K2212 l0 l1 l2 l3 l4 h) <| cnd ((x476 &&& (63:Int32)) = (41:Int32)) (f_L_law_j2214 E Q (f_L_law_l23 E Q K311 K336 K349 K374 K387 K412 K460 K477 K505 K553 K570 K609 K626 K689 K706 K757 K774 K825 K842 K893 K910 K961 K978 K1029 K1046 K1097 K1121 K1172 K1189 K1240 K1257 K1308 K1325 K1376 K1393 K1421 K1457 K1481 K1497 K1533 K1550 K1589 K1606 K1650 K1686 K1703 K1744 K1795 K1812 K1828 K1876 K1893 K1944 K1961 K2025 K2038 K2075 K2088 K2149 K2174 K2187 K2212 K2237 K2274 K2287 K2323 K2340 K2368 K2376 n) K2237 l0 l1 l2 l3 l4 h) <| cnd ((x476 &&& (63:Int32)) = (42:Int32)) (f_L_law_j2239 E Q (f_L_law_l23 E Q K311 K336 K349 K374 K387 K412 K460 K477 K505 K553 K570 K609 K626 K689 K706 K757 K774 K825 K842 K893 K910 K961 K978 K1029 K1046 K1097 K1121 K1172 K1189 K1240 K1257 K1308 K1325 K1376 K1393 K1421 K1457 K1481 K1497 K1533 K1550 K1589 K1606 K1650 K1686 K1703 K1744 K1795 K1812 K1828 K1876 K1893 K1944 K1961 K2025 K2038 K2075 K2088 K2149 K2174 K2187 K2212 K2237 K2274 K2287 K2323 K2340 K2368 K2376 n) K2274 l0 l1 l2 l3 l4 h) <| cnd ((x476 &&& (63:Int32)) = (43:Int32)) (f_L_law_j2276 E Q (f_L_law_l23 E Q K311 K336 K349 K374 K387 K412 K460 K477 K505 K553 K570 K609 K626 K689 K706 K757 K774 K825 K842 K893 K910 K961 K978 K1029 K1046 K1097 K1121 K1172 K1189 K1240 K1257 K1308 K1325 K1376 K1393 K1421 K1457 K1481 K1497 K1533 K1550 K1589 K1606 K1650 K1686 K1703 K1744 K1795 K1812 K1828 K1876 K1893 K1944 K1961 K2025 K2038 K2075 K2088 K2149 K2174 K2187 K2212 K2237 K2274 K2287 K2323 K2340 K2368 K2376 n) K2287 l0 l1 l2 l3 l4 h) <| cnd ((x476 &&& (63:Int32)) = (44:Int32)) (f_L_law_j2289 E Q (f_L_law_l23 E Q K311 K336 K349 K374 K387 K412 K460 K477 K505 K553 K570 K609 K626 K689 K706 K757 K774 K825 K842 K893 K910 K961 K978 K1029 K1046 K1097 K1121 K1172 K1189 K1240 K1257 K1308 K1325 K1376 K1393 K1421 K1457 K1481 K1497 K1533 K1550 K1589 K1606 K1650 K1686 K1703 K1744 K1795 K1812 K1828 K1876 K1893 K1944 K1961 K2025 K2038 K2075 K2088 K2149 K2174 K2187 K2212 K2237 K2274 K2287 K2323 K2340 K2368 K2376 n) K2323 K2340 l0 l1 l2 l3 l4 h) <| cnd ((x476 &&& (63:Int32)) = (45:Int32)) (f_L_law_j2345 E Q (f_L_law_l23 E Q K311 K336 K349 K374 K387 K412 K460 K477 K505 K553 K570 K609 K626 K689 K706 K757 K774 K825 K842 K893 K910 K961 K978 K1029 K1046 K1097 K1121 K1172 K1189 K1240 K1257 K1308 K1325 K1376 K1393 K1421 K1457 K1481 K1497 K1533 K1550 K1589 K1606 K1650 K1686 K1703 K1744 K1795 K1812 K1828 K1876 K1893 K1944 K1961 K2025 K2038 K2075 K2088 K2149 K2174 K2187 K2212 K2237 K2274 K2287 K2323 K2340 K2368 K2376 n) K2368 l0 l1 l2 l3 l4 h) <| (f_L_law_l23 E Q K311 K336 K349 K374 K387 K412 K460 K477 K505 K553 K570 K609 K626 K689 K706 K757 K774 K825 K842 K893 K910 K961 K978 K1029 K1046 K1097 K1121 K1172 K1189 K1240 K1257 K1308 K1325 K1376 K1393 K1421 K1457 K1481 K1497 K1533 K1550 K1589 K1606 K1650 K1686 K1703 K1744 K1795 K1812 K1828 K1876 K1893 K1944 K1961 K2025 K2038 K2075 K2088 K2149 K2174 K2187 K2212 K2237 K2274 K2287 K2323 K2340 K2368 K2376 n) l0 l1 l2 l3 (l4 + (6:Int32)) h)
def f_L_law (E : Nat → Nat) (v0 : Option Nat) (h : hH) (Q : Int32 → hH → Prop) : Prop :=
nO h 0 [va_rf none, va_rf none, va_rf none, .int 0, .int 0, va_rf none] fun q477 h478 =>
f_X1_init E q477 h478 (fun h479 =>
nO h479 3 [.int 0, va_rf none, .int 0, va_rf none, va_rf none, va_rf none, va_rf none, va_rf none, .int 0, va_rf none, va_rf none, va_rf none, .int 0, .int 0, .int 0, .int 0, .int 0, .int 0, .int 0, .int 0, .int 0, .int 0, .int 0, .int 0, .int 0, va_rf none, .int 0] fun q480 h481 =>
f_X5_init E q480 h481 (fun h482 =>
nAl h482 3 (1:Int32) 1 fun q483 h484 =>
f_L_law_l23 E Q (fun h => Q (0:Int32) h) (fun h => Q (0:Int32) h) (fun h => Q (0:Int32) h) (fun h => Q (0:Int32) h) (fun h => Q (0:Int32) h) (fun h => Q (0:Int32) h) (fun h => Q (0:Int32) h) (fun h => Q (0:Int32) h) (fun h => Q (0:Int32) h) (fun h => Q (0:Int32) h) (fun h => Q (0:Int32) h) (fun h => Q (0:Int32) h) (fun h => Q (0:Int32) h) (fun h => Q (0:Int32) h) (fun h => Q (0:Int32) h) (fun h => Q (0:Int32) h) (fun h => Q (0:Int32) h) (fun h => Q (0:Int32) h) (fun h => Q (0:Int32) h) (fun h => Q (0:Int32) h) (fun h => Q (0:Int32) h) (fun h => Q (0:Int32) h) (fun h => Q (0:Int32) h) (fun h => Q (0:Int32) h) (fun h => Q (0:Int32) h) (fun h => Q (0:Int32) h) (fun h => Q (0:Int32) h) (fun h => Q (0:Int32) h) (fun h => Q (0:Int32) h) (fun h => Q (0:Int32) h) (fun h => Q (0:Int32) h) (fun h => Q (0:Int32) h) (fun h => Q (0:Int32) h) (fun h => Q (0:Int32) h) (fun h => Q (0:Int32) h) (fun h => Q (0:Int32) h) (fun h => Q (0:Int32) h) (fun h => Q (0:Int32) h) (fun h => Q (0:Int32) h) (fun h => Q (0:Int32) h) (fun h => Q (0:Int32) h) (fun h => Q (0:Int32) h) (fun h => Q (0:Int32) h) (fun h => Q (0:Int32) h) (fun h => Q (0:Int32) h) (fun h => Q (0:Int32) h) (fun h => Q (0:Int32) h) (fun h => Q (0:Int32) h) (fun h => Q (0:Int32) h) (fun h => Q (0:Int32) h) (fun h => Q (0:Int32) h) (fun h => Q (0:Int32) h) (fun h => Q (0:Int32) h) (fun h => Q (0:Int32) h) (fun h => Q (0:Int32) h) (fun h => Q (0:Int32) h) (fun h => Q (0:Int32) h) (fun h => Q (0:Int32) h) (fun h => Q (0:Int32) h) (fun h => Q (0:Int32) h) (fun h => Q (0:Int32) h) (fun h => Q (0:Int32) h) (fun h => Q (0:Int32) h) (fun h => Q (0:Int32) h) (fun h => Q (0:Int32) h) (fun h => Q (0:Int32) h) (fun h => Q (0:Int32) h) (fun h => Q (0:Int32) h) (fun h => Q (1:Int32) h) 65 v0 (some q477) (some q480) (some q483) (0:Int32) h484))
