set_option maxRecDepth 100000
def f_X11_init_l52 (E : Nat → Nat) (v0 : Nat) (Q : hH → Prop) (K112 : hH → Prop) : Nat → Int32 → hH → Prop
  | 0, _, _ => False
  | n + 1, l2, h => cnd (l2 ≤ (0:Int32)) (K112 h) (gR h (some v0) 8 0 fun x1 =>
gR h (some v0) 8 0 fun x2 =>
ldI h x2 0 ((2:Int32) * l2) fun x3 =>
gR h (some v0) 8 0 fun x4 =>
ldI h x4 0 (((2:Int32) * l2) + (1:Int32)) fun x5 =>
stI h x1 0 l2 ((lRem ((((69069:Int64) * x3.toInt64) + (((30011:Int64) + ((2:Int64) * l2.toInt64)) * x5.toInt64)) + l2.toInt64) (2147483647:Int64)).toInt32) fun h6 =>
(f_X11_init_l52 E v0 Q K112 n) (l2 + (-1:Int32)) h6)
def f_X11_init_l14 (E : Nat → Nat) (v0 : Nat) (Q : hH → Prop) (K49 : hH → Prop) : Nat → Option Nat → Int32 → hH → Prop
  | 0, _, _, _ => False
  | n + 1, l1, l2, h => cnd ((16:Int32) ≤ l2) (K49 h) (gR h (some v0) 8 0 fun x7 =>
ldI h l1 0 l2 fun x8 =>
stI h x7 0 ((16:Int32) + l2) ((((40503:Int32) * x8) + ((977:Int32) * l2)) + (1:Int32)) fun h9 =>
(f_X11_init_l14 E v0 Q K49 n) l1 (l2 + (1:Int32)) h9)
def f_X11_init (E : Nat → Nat) (v0 : Nat) (v1 : Option Nat) (h : hH) (Q : hH → Prop) : Prop :=
nA h 0 (32:Int32) 32 fun q10 h11 =>
pV h11 (some v0) 8 0 (va_rf (some q10)) fun h12 =>
f_X11_init_l14 E v0 Q (fun h => f_X11_init_l52 E v0 Q (fun h => Q h) 1000000 (15:Int32) h) 1000000 v1 (0:Int32) h12
def f_X11_root (E : Nat → Nat) (v0 : Nat) (h : hH) (Q : Int32 → hH → Prop) : Prop :=
gR h (some v0) 8 0 fun x1 =>
ldI h x1 0 (1:Int32) fun x2 =>
Q x2 h
def f_X10_init (E : Nat → Nat) (v0 : Nat) (v1 : Int32) (v2 : Int32) (v3 : Int32) (v4 : Option Nat) (v5 : Int32) (h : hH) (Q : hH → Prop) : Prop :=
pV h (some v0) 7 5 (.int (1:Int32)) fun h1 =>
nO h1 23 [va_rf none, va_rf none, va_rf none, va_rf none, .int 0, .int 0, va_rf none, va_rf none, va_rf none] fun q2 h3 =>
f_J24_init E q2 h3 (fun h4 =>
pV h4 (some v0) 7 9 (va_rf (some q2)) fun h5 =>
pV h5 (some v0) 7 0 (.int v1) fun h6 =>
pV h6 (some v0) 7 1 (.int v2) fun h7 =>
pV h7 (some v0) 7 2 (.int v3) fun h8 =>
pV h8 (some v0) 7 3 (va_rf v4) fun h9 =>
pV h9 (some v0) 7 4 (.int v5) fun h10 =>
Q h10)
def f_X10_tree (E : Nat → Nat) (v0 : Nat) (h : hH) (Q : Option Nat → hH → Prop) : Prop :=
nO h 8 [va_rf none] fun q1 h2 =>
gR h2 (some v0) 7 3 fun x3 =>
f_X11_init E q1 x3 h2 (fun h4 =>
Q (some q1) h4)
def f_X10_note (E : Nat → Nat) (v0 : Nat) (h : hH) (Q : hH → Prop) : Prop :=
gR h (some v0) 7 9 fun x1 =>
gI h (some v0) 7 4 fun x2 =>
f_J20_valueOfS E x2 h (fun x4 h3 =>
isT h3 (some v0) 7 fun a7 => f_X10_tree E a7 h3 (fun x6 h5 =>
isT h5 x6 8 fun a10 => f_X11_root E a10 h5 (fun x9 h8 =>
f_J20_valueOf E x9 h8 (fun x12 h11 =>
isT h11 x1 23 fun a15 => f_J24_put E a15 x4 x12 h11 (fun x14 h13 =>
ckT h13 x14 22 (Q h13))))))
def f_X10_rootAt (E : Nat → Nat) (v0 : Nat) (v1 : Int32) (h : hH) (Q : Int32 → hH → Prop) : Prop :=
gR h (some v0) 7 9 fun x1 =>
f_J20_valueOf E v1 h (fun x3 h2 =>
isT h2 x1 23 fun a6 => f_J24_get E a6 x3 h2 (fun x5 h4 =>
ckT h4 x5 22 (cnd (x5 = none) (Q (-1:Int32) h4) (isT h4 x5 22 fun a9 => f_J20_intValue E a9 h4 (fun x8 h7 =>
Q x8 h7)))))
def f_X10_copy (E : Nat → Nat) (v0 : Nat) (h : hH) (Q : Option Nat → hH → Prop) : Prop :=
nO h 7 [.int 0, .int 0, .int 0, va_rf none, .int 0, .int 0, .int 0, .int 0, .int 0, va_rf none] fun q1 h2 =>
gI h2 (some v0) 7 0 fun x3 =>
gI h2 (some v0) 7 1 fun x4 =>
gI h2 (some v0) 7 2 fun x5 =>
gR h2 (some v0) 7 3 fun x6 =>
clI h2 x6 16 fun q7 h8 =>
ckA h8 (some q7) 0 (gI h8 (some v0) 7 4 fun x9 =>
f_X10_init E q1 x3 x4 x5 (some q7) x9 h8 (fun h10 =>
gI h10 (some v0) 7 5 fun x11 =>
nfit .boolean x11 ∧ pV h10 (some q1) 7 5 (.int x11) fun h12 =>
gI h12 (some v0) 7 6 fun x13 =>
pV h12 (some q1) 7 6 (.int x13) fun h14 =>
gI h14 (some v0) 7 7 fun x15 =>
pV h14 (some q1) 7 7 (.int x15) fun h16 =>
gI h16 (some v0) 7 8 fun x17 =>
pV h16 (some q1) 7 8 (.int x17) fun h18 =>
gR h18 (some q1) 7 9 fun x19 =>
gR h18 (some v0) 7 9 fun x20 =>
isT h18 x19 23 fun a22 => f_J24_putAll E a22 x20 h18 (fun h21 =>
Q (some q1) h21)))
def f_X10_first (E : Nat → Nat) (v0 : Nat) (h : hH) (Q : Int32 → hH → Prop) : Prop :=
gR h (some v0) 7 9 fun x1 =>
isT h x1 23 fun a4 => f_J24_firstKey E a4 h (fun x3 h2 =>
ckT h2 x3 22 (isT h2 x3 22 fun a7 => f_J20_intValue E a7 h2 (fun x6 h5 =>
Q x6 h5)))
def f_X13_differs (E : Nat → Nat) (v0 : Nat) (v1 : Int32) (h : hH) (Q : Int32 → hH → Prop) : Prop :=
gI h (some v0) 10 2 fun x1 =>
pV h (some v0) 10 2 (.int (x1 + (1:Int32))) fun h2 =>
gR h2 (some v0) 10 0 fun x3 =>
gR h2 x3 8 0 fun x4 =>
ldI h2 x4 0 v1 fun x5 =>
gR h2 (some v0) 10 1 fun x6 =>
gR h2 x6 8 0 fun x7 =>
ldI h2 x7 0 v1 fun x8 =>
cnd (x5 = x8) (Q (0:Int32) h2) (Q (1:Int32) h2)
def f_X13_init (E : Nat → Nat) (v0 : Nat) (v1 : Option Nat) (v2 : Option Nat) (h : hH) (Q : hH → Prop) : Prop :=
pV h (some v0) 10 0 (va_rf v1) fun h1 =>
pV h1 (some v0) 10 1 (va_rf v2) fun h2 =>
Q h2
def f_X14_goOn_l5 (E : Nat → Nat) (v0 : Nat) (Q : hH → Prop) (K99 : hH → Prop) : Nat → hH → Prop
  | 0, _ => False
  | n + 1, h => gI h (some v0) 11 1 fun x1 =>
cnd (x1 = (-1:Int32)) (gR h (some v0) 11 0 fun x2 =>
isT h x2 19 fun a5 => f_J5_isEmpty E a5 h (fun x4 h3 =>
cnd (x4 = (0:Int32)) (gR h3 (some v0) 11 0 fun x6 =>
isT h3 x6 19 fun a9 => f_J5_pop E a9 h3 (fun x8 h7 =>
ckT h7 x8 22 (isT h7 x8 22 fun a12 => f_J20_intValue E a12 h7 (fun x11 h10 =>
gR h10 (some v0) 11 2 fun x13 =>
isT h10 x13 10 fun a16 => f_X13_differs E a16 x11 h10 (fun x15 h14 =>
cnd (x15 = (0:Int32)) ((f_X14_goOn_l5 E v0 Q K99 n) h14) (cnd (x11 < (16:Int32)) (gR h14 (some v0) 11 0 fun x17 =>
f_J20_valueOfS E (((2:Int32) * x11) + (1:Int32)) h14 (fun x19 h18 =>
isT h18 x17 19 fun a21 => f_J5_push E a21 x19 h18 (fun h20 =>
gR h20 (some v0) 11 0 fun x22 =>
f_J20_valueOfS E ((2:Int32) * x11) h20 (fun x24 h23 =>
isT h23 x22 19 fun a26 => f_J5_push E a26 x24 h23 (fun h25 =>
(f_X14_goOn_l5 E v0 Q K99 n) h25))))) (pV h14 (some v0) 11 1 (.int (x11 - (16:Int32))) fun h27 =>
(f_X14_goOn_l5 E v0 Q K99 n) h27))))))) (K99 h3))) (K99 h)
def f_X14_goOn (E : Nat → Nat) (v0 : Nat) (h : hH) (Q : hH → Prop) : Prop :=
pV h (some v0) 11 1 (.int (-1:Int32)) fun h28 =>
f_X14_goOn_l5 E v0 Q (fun h => Q h) 1000000 h28
def f_X14_init (E : Nat → Nat) (v0 : Nat) (v1 : Option Nat) (h : hH) (Q : hH → Prop) : Prop :=
pV h (some v0) 11 2 (va_rf v1) fun h1 =>
nO h1 19 [va_rf none, .int 0, .int 0] fun q2 h3 =>
f_J5_init E q2 h3 (fun h4 =>
pV h4 (some v0) 11 0 (va_rf (some q2)) fun h5 =>
pV h5 (some v0) 11 1 (.int (-1:Int32)) fun h6 =>
gR h6 (some v0) 11 0 fun x7 =>
f_J20_valueOfS E (1:Int32) h6 (fun x9 h8 =>
isT h8 x7 19 fun a11 => f_J5_push E a11 x9 h8 (fun h10 =>
isT h10 (some v0) 11 fun a13 => f_X14_goOn E a13 h10 (fun h12 =>
Q h12))))
def f_X13_iterator (E : Nat → Nat) (v0 : Nat) (h : hH) (Q : Option Nat → hH → Prop) : Prop :=
nO h 11 [va_rf none, .int 0, va_rf none] fun q1 h2 =>
f_X14_init E q1 (some v0) h2 (fun h3 =>
Q (some q1) h3)
def f_X14_next_2 (E : Nat → Nat) (v0 : Nat) (h : hH) (Q : Option Nat → hH → Prop) : Prop :=
gI h (some v0) 11 1 fun x1 =>
cnd (x1 = (-1:Int32)) (False) (gI h (some v0) 11 1 fun x2 =>
isT h (some v0) 11 fun a4 => f_X14_goOn E a4 h (fun h3 =>
f_J20_valueOfS E x2 h3 (fun x6 h5 =>
Q x6 h5)))
def f_X14_next (E : Nat → Nat) (v0 : Nat) (h : hH) (Q : Option Nat → hH → Prop) : Prop :=
isT h (some v0) 11 fun a3 => f_X14_next_2 E a3 h (fun x2 h1 =>
Q x2 h1)
def f_X14_hasNext (E : Nat → Nat) (v0 : Nat) (h : hH) (Q : Int32 → hH → Prop) : Prop :=
gI h (some v0) 11 1 fun x1 =>
cnd (x1 = (-1:Int32)) (Q (0:Int32) h) (Q (1:Int32) h)
def f_J16_init_2_j41 (E : Nat → Nat) (v0 : Nat) (Q : hH → Prop) (l1 : Option Nat) (l2 : Option Nat) (l3 : Int32) (h : hH) : Prop :=
pV h (some v0) 29 3 (va_rf l1) fun h1 =>
pV h1 (some v0) 29 0 (va_rf l2) fun h2 =>
cnd (l3 = (0:Int32)) (pV h2 (some v0) 29 2 (va_rf none) fun h3 =>
Q h3) (Q h2)
def f_J16_init_2 (E : Nat → Nat) (v0 : Nat) (v1 : Option Nat) (v2 : Option Nat) (v3 : Int32) (v4 : Int32) (h : hH) (Q : hH → Prop) : Prop :=
pV h (some v0) 29 0 (va_rf (some v0)) fun h4 =>
∀ x5 : Option Nat,
pV h4 (some v0) 29 1 (va_rf x5) fun h6 =>
∀ x7 : Option Nat,
pV h6 (some v0) 29 2 (va_rf x7) fun h8 =>
cnd (v4 = (0:Int32)) (pV h8 (some v0) 29 1 (va_rf none) fun h9 =>
f_J16_init_2_j41 E v0 Q v1 v2 v3 h9) (False)
def f_J17_init (E : Nat → Nat) (v0 : Nat) (v1 : Option Nat) (v2 : Option Nat) (v3 : Int32) (v4 : Int32) (h : hH) (Q : hH → Prop) : Prop :=
f_J16_init_2 E v0 v1 v2 v3 v4 h (fun h1 =>
Q h1)
def f_X7_init (E : Nat → Nat) (v0 : Nat) (v1 : Int32) (h : hH) (Q : hH → Prop) : Prop :=
f_J17_init E v0 none none (0:Int32) (0:Int32) h (fun h1 =>
pV h1 (some v0) 29 6 (.int v1) fun h2 =>
Q h2)
def f_X3_init (E : Nat → Nat) (v0 : Nat) (h : hH) (Q : hH → Prop) : Prop :=
pV h (some v0) 2 0 (.int (10000:Int32)) fun h1 =>
nAq h1 7 (6:Int32) 6 fun q2 h3 =>
stR h3 (some q2) (0:Int32) (E 12) fun h4 =>
nLa h4 11 (some v0) fun q5 h6 =>
laAt h6 q5 11 ∧ stR h6 (some q2) (1:Int32) q5 fun h7 =>
stR h7 (some q2) (2:Int32) (E 13) fun h8 =>
nLa h8 13 (some v0) fun q9 h10 =>
laAt h10 q9 13 ∧ stR h10 (some q2) (3:Int32) q9 fun h11 =>
nLa h11 14 (some v0) fun q12 h13 =>
laAt h13 q12 14 ∧ stR h13 (some q2) (4:Int32) q12 fun h14 =>
nLa h14 15 (some v0) fun q15 h16 =>
laAt h16 q15 15 ∧ stR h16 (some q2) (5:Int32) q15 fun h17 =>
pV h17 (some v0) 2 1 (va_rf (some q2)) fun h18 =>
Q h18
def f_X3_lambda_new_0 (E : Nat → Nat) (v0 : Option Nat) (v1 : Int32) (v2 : Int32) (h : hH) (Q : hH → Prop) : Prop :=
stI h v0 0 v1 v2 fun h1 =>
Q h1
def f_X3_lambda_new_1 (E : Nat → Nat) (v0 : Nat) (v1 : Option Nat) (v2 : Int32) (v3 : Int32) (h : hH) (Q : hH → Prop) : Prop :=
ldI h v1 0 v2 fun x1 =>
stI h v1 0 v2 (iRem (x1 + v3) (10000:Int32)) fun h2 =>
Q h2
def f_X3_lambda_new_2 (E : Nat → Nat) (v0 : Option Nat) (v1 : Int32) (v2 : Int32) (h : hH) (Q : hH → Prop) : Prop :=
ldI h v0 0 v2 fun x1 =>
stI h v0 0 v1 x1 fun h2 =>
Q h2
def f_X3_lambda_new_3 (E : Nat → Nat) (v0 : Nat) (v1 : Option Nat) (v2 : Int32) (v3 : Int32) (h : hH) (Q : hH → Prop) : Prop :=
ldI h v1 0 v2 fun x1 =>
ldI h v1 0 v3 fun x2 =>
stI h v1 0 v2 (iRem (x1 + x2) (10000:Int32)) fun h3 =>
Q h3
def f_X3_swap (E : Nat → Nat) (v0 : Nat) (v1 : Option Nat) (v2 : Int32) (v3 : Int32) (h : hH) (Q : hH → Prop) : Prop :=
ldI h v1 0 v2 fun x1 =>
ldI h v1 0 v3 fun x2 =>
stI h v1 0 v2 x2 fun h3 =>
stI h3 v1 0 v3 x1 fun h4 =>
Q h4
def f_X3_lambda_new_4 (E : Nat → Nat) (v0 : Nat) (v1 : Option Nat) (v2 : Int32) (v3 : Int32) (h : hH) (Q : hH → Prop) : Prop :=
ldI h v1 0 v2 fun x1 =>
ldI h v1 0 v3 fun x2 =>
stI h v1 0 v2 (iRem (x1 * x2) (10000:Int32)) fun h3 =>
Q h3
def f_X3_execute_l9 (E : Nat → Nat) (v0 : Nat) (Q : hH → Prop) (K54 : hH → Prop) : Nat → Option Nat → Option Nat → Int32 → Int32 → hH → Prop
  | 0, _, _, _, _, _ => False
  | n + 1, l2, l3, l4, l5, h => cnd (l4 ≤ l5) (K54 h) (ldQ h l3 5 l5 fun x1 =>
gR h (some v0) 2 1 fun x2 =>
gI h x1 5 2 fun x3 =>
ldQ h x2 7 x3 fun x4 =>
gI h x1 5 3 fun x5 =>
gI h x1 5 4 fun x6 =>
((x4 = some (E 12) ∧ f_X3_lambda_new_0 E l2 x5 x6 h (fun h7 =>
(f_X3_execute_l9 E v0 Q K54 n) l2 l3 l4 (l5 + (1:Int32)) h7)) ∨
((isLa h x4 11 2 fun a9 => f_X3_lambda_new_1 E a9 l2 x5 x6 h (fun h7 =>
(f_X3_execute_l9 E v0 Q K54 n) l2 l3 l4 (l5 + (1:Int32)) h7)) ∨
((x4 = some (E 13) ∧ f_X3_lambda_new_2 E l2 x5 x6 h (fun h7 =>
(f_X3_execute_l9 E v0 Q K54 n) l2 l3 l4 (l5 + (1:Int32)) h7)) ∨
((isLa h x4 13 2 fun a11 => f_X3_lambda_new_3 E a11 l2 x5 x6 h (fun h7 =>
(f_X3_execute_l9 E v0 Q K54 n) l2 l3 l4 (l5 + (1:Int32)) h7)) ∨
((isLa h x4 14 2 fun a12 => f_X3_swap E a12 l2 x5 x6 h (fun h7 =>
(f_X3_execute_l9 E v0 Q K54 n) l2 l3 l4 (l5 + (1:Int32)) h7)) ∨
(isLa h x4 15 2 fun a13 => f_X3_lambda_new_4 E a13 l2 x5 x6 h (fun h7 =>
(f_X3_execute_l9 E v0 Q K54 n) l2 l3 l4 (l5 + (1:Int32)) h7))))))))
def f_X3_execute (E : Nat → Nat) (v0 : Nat) (v1 : Option Nat) (v2 : Option Nat) (h : hH) (Q : hH → Prop) : Prop :=
aLn h v1 5 fun x14 =>
f_X3_execute_l9 E v0 Q (fun h => Q h) 1000000 v2 v1 x14 (0:Int32) h
def f_X2_init (E : Nat → Nat) (v0 : Nat) (h : hH) (Q : hH → Prop) : Prop :=
nO h 2 [.int 0, va_rf none] fun q1 h2 =>
f_X3_init E q1 h2 (fun h3 =>
pV h3 (some v0) 1 0 (va_rf (some q1)) fun h4 =>
nA h4 0 (16:Int32) 16 fun q5 h6 =>
pV h6 (some v0) 1 1 (va_rf (some q5)) fun h7 =>
clI h7 (some (E 0)) 2 fun q8 h9 =>
ckA h9 (some q8) 0 (pV h9 (some v0) 1 2 (va_rf (some q8)) fun h10 =>
nO h10 16 [.int 0, va_rf none, .int 0] fun q11 h12 =>
f_J2_init E q11 h12 (fun h13 =>
pV h13 (some v0) 1 3 (va_rf (some q11)) fun h14 =>
nO h14 16 [.int 0, va_rf none, .int 0] fun q15 h16 =>
f_J2_init E q15 h16 (fun h17 =>
pV h17 (some v0) 1 4 (va_rf (some q15)) fun h18 =>
nO h18 17 [va_rf none, .int 0, va_rf none, .int 0] fun q19 h20 =>
nO h20 14 [] fun q21 h22 =>
f_X4_init E q21 h22 (fun h23 =>
f_J4_init E q19 (8:Int32) (some q21) h23 (fun h24 =>
pV h24 (some v0) 1 5 (va_rf (some q19)) fun h25 =>
nO h25 16 [.int 0, va_rf none, .int 0] fun q26 h27 =>
f_J2_init E q26 h27 (fun h28 =>
pV h28 (some v0) 1 6 (va_rf (some q26)) fun h29 =>
Q h29)))))))
def f_X2_give (E : Nat → Nat) (v0 : Nat) (v1 : Int32) (v2 : Int32) (v3 : Int32) (v4 : Int32) (h : hH) (Q : Int32 → hH → Prop) : Prop :=
gR h (some v0) 1 5 fun x1 =>
nO h 5 [.int 0, .int 0, .int 0, .int 0, .int 0] fun q2 h3 =>
gI h3 (some v0) 1 7 fun x4 =>
f_X8_init E q2 v1 x4 v2 v3 v4 h3 (fun h5 =>
isT h5 x1 17 fun a8 => f_J4_add E a8 (some q2) h5 (fun x7 h6 =>
gI h6 (some v0) 1 7 fun x9 =>
pV h6 (some v0) 1 7 (.int (x9 + (1:Int32))) fun h10 =>
gR h10 (some v0) 1 5 fun x11 =>
isT h10 x11 17 fun a14 => f_J4_size E a14 h10 (fun x13 h12 =>
Q x13 h12)))
def f_X2_seal_l13 (E : Nat → Nat) (v0 : Nat) (Q : Int32 → hH → Prop) (K38 : Option Nat → hH → Prop) : Nat → Option Nat → Int32 → hH → Prop
  | 0, _, _, _ => False
  | n + 1, l1, l2, h => aLn h l1 5 fun x1 =>
cnd (x1 ≤ l2) (K38 l1 h) (gR h (some v0) 1 5 fun x2 =>
isT h x2 17 fun a5 => f_J4_poll E a5 h (fun x4 h3 =>
ckT h3 x4 5 (stQ h3 l1 5 l2 x4 fun h6 =>
(f_X2_seal_l13 E v0 Q K38 n) l1 (l2 + (1:Int32)) h6)))
def f_X2_seal (E : Nat → Nat) (v0 : Nat) (h : hH) (Q : Int32 → hH → Prop) : Prop :=
gR h (some v0) 1 5 fun x7 =>
isT h x7 17 fun a10 => f_J4_size E a10 h (fun x9 h8 =>
nAq h8 5 x9 8 fun q11 h12 =>
f_X2_seal_l13 E v0 Q (fun l1 h => gR h (some v0) 1 4 fun x13 =>
isT h x13 16 fun a16 => f_J2_add E a16 l1 h (fun x15 h14 =>
gR h14 (some v0) 1 4 fun x17 =>
isT h14 x17 16 fun a20 => f_J2_size E a20 h14 (fun x19 h18 =>
Q x19 h18))) 1000000 (some q11) (0:Int32) h12)
def f_X2_enter (E : Nat → Nat) (v0 : Nat) (v1 : Int32) (v2 : Int32) (h : hH) (Q : hH → Prop) : Prop :=
nO h 7 [.int 0, .int 0, .int 0, va_rf none, .int 0, .int 0, .int 0, .int 0, .int 0, va_rf none] fun q1 h2 =>
gR h2 (some v0) 1 3 fun x3 =>
isT h2 x3 16 fun a6 => f_J2_size E a6 h2 (fun x5 h4 =>
gR h4 (some v0) 1 1 fun x7 =>
clI h4 x7 16 fun q8 h9 =>
ckA h9 (some q8) 0 (f_X10_init E q1 x5 v1 v2 (some q8) (0:Int32) h9 (fun h10 =>
isT h10 (some q1) 7 fun a12 => f_X10_note E a12 h10 (fun h11 =>
gR h11 (some v0) 1 3 fun x13 =>
isT h11 x13 16 fun a16 => f_J2_add E a16 (some q1) h11 (fun x15 h14 =>
Q h14)))))
def f_X2_member (E : Nat → Nat) (v0 : Nat) (v1 : Int32) (h : hH) (Q : Option Nat → hH → Prop) : Prop :=
gR h (some v0) 1 3 fun x1 =>
isT h x1 16 fun a4 => f_J2_get E a4 v1 h (fun x3 h2 =>
ckT h2 x3 7 (Q x3 h2))
def f_X2_winning_j182 (E : Nat → Nat) (v0 : Nat) (Q : Option Nat → hH → Prop) (K148 : Option Nat → Option Nat → Int32 → hH → Prop) (l4 : Option Nat) (l5 : Int32) (h : hH) : Prop :=
isT h l4 16 fun a3 => f_J2_get E a3 l5 h (fun x2 h1 =>
ckT h1 x2 13 (K148 x2 l4 (l5 + (1:Int32)) h1))
def f_X2_winning_l148 (E : Nat → Nat) (v0 : Nat) (Q : Option Nat → hH → Prop) (K203 : Option Nat → hH → Prop) : Nat → Option Nat → Option Nat → Int32 → hH → Prop
  | 0, _, _, _, _ => False
  | n + 1, l3, l4, l5, h => isT h l4 16 fun a6 => f_J2_size E a6 h (fun x5 h4 =>
cnd (x5 ≤ l5) (K203 l3 h4) (cnd (l3 = none) (f_X2_winning_j182 E v0 Q (f_X2_winning_l148 E v0 Q K203 n) l4 l5 h4) (isT h4 l4 16 fun a9 => f_J2_get E a9 l5 h4 (fun x8 h7 =>
ckT h7 x8 13 (gI h7 x8 13 1 fun x10 =>
gI h7 l3 13 1 fun x11 =>
cnd (x10 ≤ x11) ((f_X2_winning_l148 E v0 Q K203 n) l3 l4 (l5 + (1:Int32)) h7) (f_X2_winning_j182 E v0 Q (f_X2_winning_l148 E v0 Q K203 n) l4 l5 h7))))))
def f_X2_winning_j128 (E : Nat → Nat) (v0 : Nat) (Q : Option Nat → hH → Prop) (K24 : Int32 → Option Nat → Option Nat → Option Nat → Int32 → hH → Prop) (l1 : Int32) (l2 : Option Nat) (l3 : Option Nat) (l4 : Option Nat) (l5 : Int32) (l8 : Option Nat) (h : hH) : Prop :=
gI h l8 13 1 fun x12 =>
pV h l8 13 1 (.int (x12 + (1:Int32))) fun h13 =>
K24 l1 l2 l3 l4 (l5 + (1:Int32)) h13
def f_X2_winning_l24 (E : Nat → Nat) (v0 : Nat) (Q : Option Nat → hH → Prop) (K145 : Option Nat → Option Nat → hH → Prop) : Nat → Int32 → Option Nat → Option Nat → Option Nat → Int32 → hH → Prop
  | 0, _, _, _, _, _, _ => False
  | n + 1, l1, l2, l3, l4, l5, h => gR h (some v0) 1 3 fun x14 =>
isT h x14 16 fun a17 => f_J2_size E a17 h (fun x16 h15 =>
cnd (x16 ≤ l5) (K145 l3 l4 h15) (isT h15 (some v0) 1 fun a20 => f_X2_member E a20 l5 h15 (fun x19 h18 =>
isT h18 x19 7 fun a23 => f_X10_rootAt E a23 l1 h18 (fun x22 h21 =>
isT h21 (some v0) 1 fun a26 => f_X2_member E a26 l5 h21 (fun x25 h24 =>
gI h24 x25 7 5 fun x27 =>
cnd (x27 = (0:Int32)) ((f_X2_winning_l24 E v0 Q K145 n) l1 l2 l3 l4 (l5 + (1:Int32)) h24) (cnd (x22 = (-1:Int32)) ((f_X2_winning_l24 E v0 Q K145 n) l1 l2 l3 l4 (l5 + (1:Int32)) h24) (nO h24 12 [.int 0] fun q28 h29 =>
f_X15_init E q28 x22 h29 (fun h30 =>
isT h30 l2 27 fun a33 => f_J30_get E a33 (some q28) h30 (fun x32 h31 =>
ckT h31 x32 13 (cnd (x32 = none) (nO h31 13 [.int 0, .int 0] fun q34 h35 =>
f_X16_init E q34 l5 h35 (fun h36 =>
isT h36 l2 27 fun a39 => f_J30_put E a39 (some q28) (some q34) h36 (fun x38 h37 =>
ckT h37 x38 13 (isT h37 l4 16 fun a42 => f_J2_add E a42 (some q34) h37 (fun x41 h40 =>
f_X2_winning_j128 E v0 Q (f_X2_winning_l24 E v0 Q K145 n) l1 l2 l3 l4 l5 (some q34) h40))))) (f_X2_winning_j128 E v0 Q (f_X2_winning_l24 E v0 Q K145 n) l1 l2 l3 l4 l5 x32 h31)))))))))))
def f_X2_winning_j220 (E : Nat → Nat) (v0 : Nat) (Q : Option Nat → hH → Prop) (h : hH) : Prop :=
Q none h
def f_X2_winning (E : Nat → Nat) (v0 : Nat) (v1 : Int32) (h : hH) (Q : Option Nat → hH → Prop) : Prop :=
nO h 27 [va_rf none, va_rf none, va_rf none, va_rf none, .int 0, .int 0, .int 0, .float 0] fun q43 h44 =>
f_J30_init E q43 (64:Int32) h44 (fun h45 =>
nO h45 16 [.int 0, va_rf none, .int 0] fun q46 h47 =>
f_J2_init E q46 h47 (fun h48 =>
f_X2_winning_l24 E v0 Q (fun l3 l4 h => f_X2_winning_l148 E v0 Q (fun l3 h => cnd (l3 = none) (f_X2_winning_j220 E v0 Q h) (gI h l3 13 1 fun x49 =>
gR h (some v0) 1 2 fun x50 =>
ldI h x50 0 (1:Int32) fun x51 =>
cnd (x51 ≤ x49) (Q l3 h) (f_X2_winning_j220 E v0 Q h))) 1000000 l3 l4 (0:Int32) h) 7 v1 (some q43) none (some q46) (0:Int32) h48))
def f_X2_winner (E : Nat → Nat) (v0 : Nat) (v1 : Int32) (h : hH) (Q : Int32 → hH → Prop) : Prop :=
isT h (some v0) 1 fun a3 => f_X2_winning E a3 v1 h (fun x2 h1 =>
cnd (x2 = none) (Q (-1:Int32) h1) (gI h1 x2 13 0 fun x4 =>
Q x4 h1))
def f_X2_isWrong (E : Nat → Nat) (v0 : Nat) (v1 : Option Nat) (h : hH) (Q : Int32 → hH → Prop) : Prop :=
gI h v1 7 4 fun x1 =>
isT h (some v0) 1 fun a4 => f_X2_winner E a4 x1 h (fun x3 h2 =>
gI h2 v1 7 5 fun x5 =>
cnd (x5 = (0:Int32)) (Q (0:Int32) h2) (cnd (x3 = (-1:Int32)) (Q (0:Int32) h2) (isT h2 (some v0) 1 fun a8 => f_X2_member E a8 x3 h2 (fun x7 h6 =>
gI h6 v1 7 4 fun x9 =>
isT h6 x7 7 fun a12 => f_X10_rootAt E a12 x9 h6 (fun x11 h10 =>
gI h10 v1 7 4 fun x13 =>
isT h10 v1 7 fun a16 => f_X10_rootAt E a16 x13 h10 (fun x15 h14 =>
cnd (x11 = x15) (Q (0:Int32) h14) (Q (1:Int32) h14)))))))
def f_X2_greatest_l4 (E : Nat → Nat) (v0 : Nat) (Q : Int32 → hH → Prop) (K49 : Int32 → hH → Prop) : Nat → Int32 → Int32 → hH → Prop
  | 0, _, _, _ => False
  | n + 1, l1, l2, h => gR h (some v0) 1 3 fun x1 =>
isT h x1 16 fun a4 => f_J2_size E a4 h (fun x3 h2 =>
cnd (x3 ≤ l2) (K49 l1 h2) (isT h2 (some v0) 1 fun a7 => f_X2_member E a7 l2 h2 (fun x6 h5 =>
gI h5 x6 7 5 fun x8 =>
cnd (x8 = (0:Int32)) ((f_X2_greatest_l4 E v0 Q K49 n) l1 (l2 + (1:Int32)) h5) (isT h5 (some v0) 1 fun a11 => f_X2_member E a11 l2 h5 (fun x10 h9 =>
gI h9 x10 7 4 fun x12 =>
(f_X2_greatest_l4 E v0 Q K49 n) (iMax l1 x12) (l2 + (1:Int32)) h9)))))
def f_X2_greatest (E : Nat → Nat) (v0 : Nat) (h : hH) (Q : Int32 → hH → Prop) : Prop :=
f_X2_greatest_l4 E v0 Q (fun l1 h => Q l1 h) 1000000 (-1:Int32) (0:Int32) h
def f_X2_least_j48 (E : Nat → Nat) (v0 : Nat) (Q : Int32 → hH → Prop) (K4 : Int32 → Int32 → hH → Prop) (l1 : Int32) (l2 : Int32) (h : hH) : Prop :=
K4 l1 (l2 + (1:Int32)) h
def f_X2_least_j41 (E : Nat → Nat) (v0 : Nat) (Q : Int32 → hH → Prop) (K4 : Int32 → Int32 → hH → Prop) (l2 : Int32) (l3 : Option Nat) (h : hH) : Prop :=
gI h l3 7 4 fun x1 =>
K4 x1 (l2 + (1:Int32)) h
def f_X2_least_l4 (E : Nat → Nat) (v0 : Nat) (Q : Int32 → hH → Prop) (K56 : Int32 → hH → Prop) : Nat → Int32 → Int32 → hH → Prop
  | 0, _, _, _ => False
  | n + 1, l1, l2, h => gR h (some v0) 1 3 fun x2 =>
isT h x2 16 fun a5 => f_J2_size E a5 h (fun x4 h3 =>
cnd (x4 ≤ l2) (K56 l1 h3) (isT h3 (some v0) 1 fun a8 => f_X2_member E a8 l2 h3 (fun x7 h6 =>
gI h6 x7 7 5 fun x9 =>
cnd (x9 = (0:Int32)) (f_X2_least_j48 E v0 Q (f_X2_least_l4 E v0 Q K56 n) l1 l2 h6) (cnd (l1 = (-1:Int32)) (f_X2_least_j41 E v0 Q (f_X2_least_l4 E v0 Q K56 n) l2 x7 h6) (gI h6 x7 7 4 fun x10 =>
cnd (l1 ≤ x10) (f_X2_least_j48 E v0 Q (f_X2_least_l4 E v0 Q K56 n) l1 l2 h6) (f_X2_least_j41 E v0 Q (f_X2_least_l4 E v0 Q K56 n) l2 x7 h6))))))
def f_X2_least (E : Nat → Nat) (v0 : Nat) (h : hH) (Q : Int32 → hH → Prop) : Prop :=
f_X2_least_l4 E v0 Q (fun l1 h => Q l1 h) 1000000 (-1:Int32) (0:Int32) h
def f_X2_active_j32 (E : Nat → Nat) (v0 : Nat) (Q : Int32 → hH → Prop) (K4 : Int32 → Int32 → hH → Prop) (s0 : Int32) (s1 : Int32) (l2 : Int32) (h : hH) : Prop :=
K4 (s0 + s1) (l2 + (1:Int32)) h
def f_X2_active_l4 (E : Nat → Nat) (v0 : Nat) (Q : Int32 → hH → Prop) (K40 : Int32 → hH → Prop) : Nat → Int32 → Int32 → hH → Prop
  | 0, _, _, _ => False
  | n + 1, l1, l2, h => gR h (some v0) 1 3 fun x1 =>
isT h x1 16 fun a4 => f_J2_size E a4 h (fun x3 h2 =>
cnd (x3 ≤ l2) (K40 l1 h2) (isT h2 (some v0) 1 fun a7 => f_X2_member E a7 l2 h2 (fun x6 h5 =>
gI h5 x6 7 5 fun x8 =>
cnd (x8 = (0:Int32)) (f_X2_active_j32 E v0 Q (f_X2_active_l4 E v0 Q K40 n) l1 (0:Int32) l2 h5) (f_X2_active_j32 E v0 Q (f_X2_active_l4 E v0 Q K40 n) l1 (1:Int32) l2 h5))))
def f_X2_active (E : Nat → Nat) (v0 : Nat) (h : hH) (Q : Int32 → hH → Prop) : Prop :=
f_X2_active_l4 E v0 Q (fun l1 h => Q l1 h) 1000000 (0:Int32) (0:Int32) h
def f_X2_truth_l13 (E : Nat → Nat) (v0 : Nat) (Q : Option Nat → hH → Prop) (K43 : Option Nat → hH → Prop) : Nat → Int32 → Option Nat → Int32 → hH → Prop
  | 0, _, _, _, _ => False
  | n + 1, l1, l2, l3, h => cnd (l1 ≤ l3) (K43 l2 h) (gR h (some v0) 1 0 fun x1 =>
gR h (some v0) 1 4 fun x2 =>
isT h x2 16 fun a5 => f_J2_get E a5 l3 h (fun x4 h3 =>
ckA h3 x4 5 (isT h3 x1 2 fun a7 => f_X3_execute E a7 x4 l2 h3 (fun h6 =>
(f_X2_truth_l13 E v0 Q K43 n) l1 l2 (l3 + (1:Int32)) h6))))
def f_X2_truth (E : Nat → Nat) (v0 : Nat) (v1 : Int32) (h : hH) (Q : Option Nat → hH → Prop) : Prop :=
gR h (some v0) 1 1 fun x8 =>
clI h x8 16 fun q9 h10 =>
ckA h10 (some q9) 0 (f_X2_truth_l13 E v0 Q (fun l2 h => Q l2 h) 1000000 v1 (some q9) (0:Int32) h10)
def f_X2_copy_l150 (E : Nat → Nat) (v0 : Nat) (Q : Option Nat → hH → Prop) (K186 : Option Nat → hH → Prop) : Nat → Option Nat → Int32 → hH → Prop
  | 0, _, _, _ => False
  | n + 1, l1, l2, h => gR h (some v0) 1 6 fun x1 =>
isT h x1 16 fun a4 => f_J2_size E a4 h (fun x3 h2 =>
cnd (x3 ≤ l2) (K186 l1 h2) (gR h2 l1 1 6 fun x5 =>
gR h2 (some v0) 1 6 fun x6 =>
isT h2 x6 16 fun a9 => f_J2_get E a9 l2 h2 (fun x8 h7 =>
ckT h7 x8 6 (isT h7 x5 16 fun a12 => f_J2_add E a12 x8 h7 (fun x11 h10 =>
(f_X2_copy_l150 E v0 Q K186 n) l1 (l2 + (1:Int32)) h10)))))
def f_X2_copy_l117 (E : Nat → Nat) (v0 : Nat) (Q : Option Nat → hH → Prop) (K148 : Option Nat → hH → Prop) : Nat → Option Nat → Option Nat → hH → Prop
  | 0, _, _, _ => False
  | n + 1, l1, l2, h => isT h l2 18 fun a22 => f_J42_hasNext E a22 h (fun x14 h13 =>
cnd (x14 = (0:Int32)) (K148 l1 h13) (isT h13 l2 18 fun a21 => f_J42_next E a21 h13 (fun x16 h15 =>
ckT h15 x16 5 (gR h15 l1 1 5 fun x17 =>
isT h15 x17 17 fun a20 => f_J4_add E a20 x16 h15 (fun x19 h18 =>
(f_X2_copy_l117 E v0 Q K148 n) l1 l2 h18)))))
def f_X2_copy_l73 (E : Nat → Nat) (v0 : Nat) (Q : Option Nat → hH → Prop) (K109 : Option Nat → hH → Prop) : Nat → Option Nat → Int32 → hH → Prop
  | 0, _, _, _ => False
  | n + 1, l1, l2, h => gR h (some v0) 1 4 fun x23 =>
isT h x23 16 fun a26 => f_J2_size E a26 h (fun x25 h24 =>
cnd (x25 ≤ l2) (K109 l1 h24) (gR h24 l1 1 4 fun x27 =>
gR h24 (some v0) 1 4 fun x28 =>
isT h24 x28 16 fun a31 => f_J2_get E a31 l2 h24 (fun x30 h29 =>
ckA h29 x30 5 (isT h29 x27 16 fun a34 => f_J2_add E a34 x30 h29 (fun x33 h32 =>
(f_X2_copy_l73 E v0 Q K109 n) l1 (l2 + (1:Int32)) h32)))))
def f_X2_copy_l32 (E : Nat → Nat) (v0 : Nat) (Q : Option Nat → hH → Prop) (K71 : Option Nat → hH → Prop) : Nat → Option Nat → Int32 → hH → Prop
  | 0, _, _, _ => False
  | n + 1, l1, l2, h => gR h (some v0) 1 3 fun x35 =>
isT h x35 16 fun a38 => f_J2_size E a38 h (fun x37 h36 =>
cnd (x37 ≤ l2) (K71 l1 h36) (gR h36 l1 1 3 fun x39 =>
gR h36 (some v0) 1 3 fun x40 =>
isT h36 x40 16 fun a43 => f_J2_get E a43 l2 h36 (fun x42 h41 =>
ckT h41 x42 7 (isT h41 x42 7 fun a46 => f_X10_copy E a46 h41 (fun x45 h44 =>
isT h44 x39 16 fun a49 => f_J2_add E a49 x45 h44 (fun x48 h47 =>
(f_X2_copy_l32 E v0 Q K71 n) l1 (l2 + (1:Int32)) h47))))))
def f_X2_copy (E : Nat → Nat) (v0 : Nat) (h : hH) (Q : Option Nat → hH → Prop) : Prop :=
nO h 1 [va_rf none, va_rf none, va_rf none, va_rf none, va_rf none, va_rf none, va_rf none, .int 0] fun q50 h51 =>
f_X2_init E q50 h51 (fun h52 =>
gR h52 (some v0) 1 1 fun x53 =>
pV h52 (some q50) 1 1 (va_rf x53) fun h54 =>
gR h54 (some v0) 1 2 fun x55 =>
clI h54 x55 2 fun q56 h57 =>
ckA h57 (some q56) 0 (pV h57 (some q50) 1 2 (va_rf (some q56)) fun h58 =>
f_X2_copy_l32 E v0 Q (fun l1 h => f_X2_copy_l73 E v0 Q (fun l1 h => gR h (some v0) 1 5 fun x59 =>
isT h x59 17 fun a62 => f_J4_iterator E a62 h (fun x61 h60 =>
f_X2_copy_l117 E v0 Q (fun l1 h => f_X2_copy_l150 E v0 Q (fun l1 h => gI h (some v0) 1 7 fun x63 =>
pV h l1 1 7 (.int x63) fun h64 =>
Q l1 h64) 11 l1 (0:Int32) h) 9 l1 x61 h60)) 41 l1 (0:Int32) h) 7 (some q50) (0:Int32) h58))
def f_X2_mayRun (E : Nat → Nat) (v0 : Nat) (v1 : Option Nat) (v2 : Int32) (h : hH) (Q : Int32 → hH → Prop) : Prop :=
gI h v1 7 5 fun x1 =>
cnd (x1 = (0:Int32)) (Q (0:Int32) h) (gR h (some v0) 1 4 fun x2 =>
isT h x2 16 fun a5 => f_J2_size E a5 h (fun x4 h3 =>
gR h3 (some v0) 1 2 fun x6 =>
ldI h3 x6 0 (0:Int32) fun x7 =>
gI h3 v1 7 4 fun x8 =>
Q (iMax (0:Int32) ((iMin x4 (v2 + x7)) - x8)) h3))
def f_X2_step_l29 (E : Nat → Nat) (v0 : Nat) (Q : hH → Prop) (K126 : Option Nat → hH → Prop) : Nat → Option Nat → Int32 → Int32 → hH → Prop
  | 0, _, _, _, _ => False
  | n + 1, l1, l2, l3, h => gR h (some v0) 1 6 fun x1 =>
isT h x1 16 fun a4 => f_J2_size E a4 h (fun x3 h2 =>
cnd (x3 ≤ l3) (K126 l1 h2) (gR h2 (some v0) 1 6 fun x5 =>
isT h2 x5 16 fun a8 => f_J2_get E a8 l3 h2 (fun x7 h6 =>
ckT h6 x7 6 (gI h6 x7 6 0 fun x9 =>
gI h6 l1 7 0 fun x10 =>
cnd (x9 = x10) (gI h6 x7 6 1 fun x11 =>
cnd (x11 = l2) (gR h6 l1 7 3 fun x12 =>
gI h6 x7 6 2 fun x13 =>
gR h6 l1 7 3 fun x14 =>
gI h6 x7 6 2 fun x15 =>
ldI h6 x14 0 x15 fun x16 =>
gI h6 x7 6 3 fun x17 =>
stI h6 x12 0 x13 (iRem (x16 + x17) (10000:Int32)) fun h18 =>
gR h18 (some v0) 1 6 fun x19 =>
isT h18 x19 16 fun a22 => f_J2_remove E a22 l3 h18 (fun x21 h20 =>
ckT h20 x21 6 ((f_X2_step_l29 E v0 Q K126 n) l1 l2 l3 h20))) ((f_X2_step_l29 E v0 Q K126 n) l1 l2 (l3 + (1:Int32)) h6)) ((f_X2_step_l29 E v0 Q K126 n) l1 l2 (l3 + (1:Int32)) h6)))))
def f_X2_step (E : Nat → Nat) (v0 : Nat) (v1 : Option Nat) (h : hH) (Q : hH → Prop) : Prop :=
gI h v1 7 4 fun x23 =>
gR h (some v0) 1 0 fun x24 =>
gR h (some v0) 1 4 fun x25 =>
isT h x25 16 fun a28 => f_J2_get E a28 x23 h (fun x27 h26 =>
ckA h26 x27 5 (gR h26 v1 7 3 fun x29 =>
isT h26 x24 2 fun a31 => f_X3_execute E a31 x27 x29 h26 (fun h30 =>
f_X2_step_l29 E v0 Q (fun l1 h => gI h l1 7 4 fun x32 =>
pV h l1 7 4 (.int (x32 + (1:Int32))) fun h33 =>
isT h33 l1 7 fun a35 => f_X10_note E a35 h33 (fun h34 =>
Q h34)) 1000000 v1 x23 (0:Int32) h30)))
def f_X2_run_l2 (E : Nat → Nat) (v0 : Nat) (Q : Int32 → hH → Prop) (K18 : Int32 → hH → Prop) : Nat → Option Nat → Int32 → Int32 → hH → Prop
  | 0, _, _, _, _ => False
  | n + 1, l1, l2, l3, h => cnd (l2 ≤ l3) (K18 l2 h) (isT h (some v0) 1 fun a2 => f_X2_step E a2 l1 h (fun h1 =>
(f_X2_run_l2 E v0 Q K18 n) l1 l2 (l3 + (1:Int32)) h1))
def f_X2_run (E : Nat → Nat) (v0 : Nat) (v1 : Option Nat) (v2 : Int32) (h : hH) (Q : Int32 → hH → Prop) : Prop :=
f_X2_run_l2 E v0 Q (fun l2 h => Q l2 h) 41 v1 v2 (0:Int32) h
def f_X2_donorAt_l27 (E : Nat → Nat) (v0 : Nat) (Q : Int32 → hH → Prop) (K107 : Option Nat → hH → Prop) : Nat → Int32 → Int32 → Int32 → Option Nat → Int32 → hH → Prop
  | 0, _, _, _, _, _, _ => False
  | n + 1, l1, l2, l3, l4, l5, h => gR h (some v0) 1 3 fun x1 =>
isT h x1 16 fun a4 => f_J2_size E a4 h (fun x3 h2 =>
cnd (x3 ≤ l5) (K107 l4 h2) (cnd (l3 = (-1:Int32)) (K107 l4 h2) (isT h2 (some v0) 1 fun a7 => f_X2_member E a7 l5 h2 (fun x6 h5 =>
cnd (l5 = l2) ((f_X2_donorAt_l27 E v0 Q K107 n) l1 l2 l3 l4 (l5 + (1:Int32)) h5) (gI h5 x6 7 5 fun x8 =>
cnd (x8 = (0:Int32)) ((f_X2_donorAt_l27 E v0 Q K107 n) l1 l2 l3 l4 (l5 + (1:Int32)) h5) (gI h5 x6 7 4 fun x9 =>
cnd (x9 = l1) (isT h5 x6 7 fun a12 => f_X10_rootAt E a12 l1 h5 (fun x11 h10 =>
isT h10 (some v0) 1 fun a15 => f_X2_member E a15 l3 h10 (fun x14 h13 =>
isT h13 x14 7 fun a18 => f_X10_rootAt E a18 l1 h13 (fun x17 h16 =>
cnd (x11 = x17) (isT h16 l4 17 fun a21 => f_J4_add E a21 x6 h16 (fun x20 h19 =>
(f_X2_donorAt_l27 E v0 Q K107 n) l1 l2 l3 l4 (l5 + (1:Int32)) h19)) ((f_X2_donorAt_l27 E v0 Q K107 n) l1 l2 l3 l4 (l5 + (1:Int32)) h16))))) ((f_X2_donorAt_l27 E v0 Q K107 n) l1 l2 l3 l4 (l5 + (1:Int32)) h5)))))))
def f_X2_donorAt_j107 (E : Nat → Nat) (v0 : Nat) (Q : Int32 → hH → Prop) (l4 : Option Nat) (h : hH) : Prop :=
isT h l4 17 fun a24 => f_J4_poll E a24 h (fun x23 h22 =>
ckT h22 x23 7 (cnd (x23 = none) (Q (-1:Int32) h22) (gI h22 x23 7 0 fun x25 =>
Q x25 h22)))
def f_X2_donorAt (E : Nat → Nat) (v0 : Nat) (v1 : Int32) (v2 : Int32) (h : hH) (Q : Int32 → hH → Prop) : Prop :=
isT h (some v0) 1 fun a28 => f_X2_winner E a28 v1 h (fun x27 h26 =>
nO h26 17 [va_rf none, .int 0, va_rf none, .int 0] fun q29 h30 =>
nO h30 15 [] fun q31 h32 =>
f_X17_init E q31 h32 (fun h33 =>
f_J4_init E q29 (6:Int32) (some q31) h33 (fun h34 =>
f_X2_donorAt_l27 E v0 Q (fun l4 h => f_X2_donorAt_j107 E v0 Q l4 h) 7 v1 v2 x27 (some q29) (0:Int32) h34)))
def f_X2_whyNot (E : Nat → Nat) (v0 : Nat) (v1 : Option Nat) (h : hH) (Q : Int32 → hH → Prop) : Prop :=
gI h v1 7 5 fun x1 =>
cnd (x1 = (0:Int32)) (Q (1:Int32) h) (gI h v1 7 4 fun x2 =>
isT h (some v0) 1 fun a5 => f_X2_winner E a5 x2 h (fun x4 h3 =>
cnd (x4 = (-1:Int32)) (Q (2:Int32) h3) (isT h3 (some v0) 1 fun a8 => f_X2_isWrong E a8 v1 h3 (fun x7 h6 =>
cnd (x7 = (0:Int32)) (Q (3:Int32) h6) (gI h6 v1 7 4 fun x9 =>
gI h6 v1 7 0 fun x10 =>
isT h6 (some v0) 1 fun a13 => f_X2_donorAt E a13 x9 x10 h6 (fun x12 h11 =>
cnd (x12 = (-1:Int32)) (Q (4:Int32) h11) (Q (0:Int32) h11)))))))
def f_X2_heal_l39 (E : Nat → Nat) (v0 : Nat) (Q : Int32 → hH → Prop) (K87 : Option Nat → Option Nat → Int32 → hH → Prop) : Nat → Option Nat → Option Nat → Int32 → Option Nat → hH → Prop
  | 0, _, _, _, _, _ => False
  | n + 1, l1, l2, l3, l4, h => isT h l4 11 fun a16 => f_X14_hasNext E a16 h (fun x2 h1 =>
cnd (x2 = (0:Int32)) (K87 l1 l2 l3 h1) (isT h1 l4 11 fun a15 => f_X14_next E a15 h1 (fun x4 h3 =>
ckT h3 x4 22 (gR h3 l1 7 3 fun x5 =>
isT h3 x4 22 fun a8 => f_J20_intValue E a8 h3 (fun x7 h6 =>
gR h6 l2 7 3 fun x9 =>
isT h6 x4 22 fun a12 => f_J20_intValue E a12 h6 (fun x11 h10 =>
ldI h10 x9 0 x11 fun x13 =>
stI h10 x5 0 x7 x13 fun h14 =>
(f_X2_heal_l39 E v0 Q K87 n) l1 l2 (l3 + (1:Int32)) l4 h14))))))
def f_X2_heal (E : Nat → Nat) (v0 : Nat) (v1 : Option Nat) (h : hH) (Q : Int32 → hH → Prop) : Prop :=
gI h v1 7 4 fun x17 =>
gI h v1 7 0 fun x18 =>
isT h (some v0) 1 fun a21 => f_X2_donorAt E a21 x17 x18 h (fun x20 h19 =>
isT h19 (some v0) 1 fun a24 => f_X2_member E a24 x20 h19 (fun x23 h22 =>
nO h22 10 [va_rf none, va_rf none, .int 0] fun q25 h26 =>
isT h26 v1 7 fun a29 => f_X10_tree E a29 h26 (fun x28 h27 =>
isT h27 x23 7 fun a32 => f_X10_tree E a32 h27 (fun x31 h30 =>
f_X13_init E q25 x28 x31 h30 (fun h33 =>
isT h33 (some q25) 10 fun a36 => f_X13_iterator E a36 h33 (fun x35 h34 =>
f_X2_heal_l39 E v0 Q (fun l1 l2 l3 h => gI h l2 7 6 fun x37 =>
pV h l2 7 6 (.int (x37 + l3)) fun h38 =>
gI h38 l1 7 7 fun x39 =>
pV h38 l1 7 7 (.int (x39 + l3)) fun h40 =>
gI h40 l1 7 8 fun x41 =>
pV h40 l1 7 8 (.int (x41 + (1:Int32))) fun h42 =>
isT h42 l1 7 fun a44 => f_X10_note E a44 h42 (fun h43 =>
Q l3 h43)) 1000000 v1 x23 (0:Int32) x35 h34))))))
def f_X2_healAll_l4 (E : Nat → Nat) (v0 : Nat) (Q : Int32 → hH → Prop) (K46 : Int32 → hH → Prop) : Nat → Int32 → Int32 → hH → Prop
  | 0, _, _, _ => False
  | n + 1, l1, l2, h => gR h (some v0) 1 3 fun x1 =>
isT h x1 16 fun a4 => f_J2_size E a4 h (fun x3 h2 =>
cnd (x3 ≤ l2) (K46 l1 h2) (isT h2 (some v0) 1 fun a7 => f_X2_member E a7 l2 h2 (fun x6 h5 =>
isT h5 (some v0) 1 fun a10 => f_X2_whyNot E a10 x6 h5 (fun x9 h8 =>
cnd (x9 = (0:Int32)) (isT h8 (some v0) 1 fun a13 => f_X2_member E a13 l2 h8 (fun x12 h11 =>
isT h11 (some v0) 1 fun a16 => f_X2_heal E a16 x12 h11 (fun x15 h14 =>
(f_X2_healAll_l4 E v0 Q K46 n) (l1 + (1:Int32)) (l2 + (1:Int32)) h14))) ((f_X2_healAll_l4 E v0 Q K46 n) l1 (l2 + (1:Int32)) h8)))))
def f_X2_healAll (E : Nat → Nat) (v0 : Nat) (h : hH) (Q : Int32 → hH → Prop) : Prop :=
f_X2_healAll_l4 E v0 Q (fun l1 h => Q l1 h) 7 (0:Int32) (0:Int32) h
def f_X2_join (E : Nat → Nat) (v0 : Nat) (v1 : Int32) (v2 : Int32) (h : hH) (Q : Int32 → hH → Prop) : Prop :=
isT h (some v0) 1 fun a3 => f_X2_member E a3 v2 h (fun x2 h1 =>
nO h1 7 [.int 0, .int 0, .int 0, va_rf none, .int 0, .int 0, .int 0, .int 0, .int 0, va_rf none] fun q4 h5 =>
gR h5 (some v0) 1 3 fun x6 =>
isT h5 x6 16 fun a9 => f_J2_size E a9 h5 (fun x8 h7 =>
gR h7 x2 7 3 fun x10 =>
clI h7 x10 16 fun q11 h12 =>
ckA h12 (some q11) 0 (gI h12 x2 7 4 fun x13 =>
f_X10_init E q4 x8 (0:Int32) v1 (some q11) x13 h12 (fun h14 =>
gI h14 x2 7 6 fun x15 =>
pV h14 x2 7 6 (.int (x15 + (16:Int32))) fun h16 =>
pV h16 (some q4) 7 7 (.int (16:Int32)) fun h17 =>
isT h17 (some q4) 7 fun a19 => f_X10_note E a19 h17 (fun h18 =>
gR h18 (some v0) 1 3 fun x20 =>
isT h18 x20 16 fun a23 => f_J2_add E a23 (some q4) h18 (fun x22 h21 =>
gI h21 (some q4) 7 0 fun x24 =>
Q x24 h21))))))
def f_X2_leave_l7 (E : Nat → Nat) (v0 : Nat) (Q : hH → Prop) (K60 : hH → Prop) : Nat → Option Nat → Int32 → hH → Prop
  | 0, _, _, _ => False
  | n + 1, l1, l2, h => gR h (some v0) 1 6 fun x1 =>
isT h x1 16 fun a4 => f_J2_size E a4 h (fun x3 h2 =>
cnd (x3 ≤ l2) (K60 h2) (gR h2 (some v0) 1 6 fun x5 =>
isT h2 x5 16 fun a8 => f_J2_get E a8 l2 h2 (fun x7 h6 =>
ckT h6 x7 6 (gI h6 x7 6 0 fun x9 =>
gI h6 l1 7 0 fun x10 =>
cnd (x9 = x10) (gR h6 (some v0) 1 6 fun x11 =>
isT h6 x11 16 fun a14 => f_J2_remove E a14 l2 h6 (fun x13 h12 =>
ckT h12 x13 6 ((f_X2_leave_l7 E v0 Q K60 n) l1 l2 h12))) ((f_X2_leave_l7 E v0 Q K60 n) l1 (l2 + (1:Int32)) h6)))))
def f_X2_leave (E : Nat → Nat) (v0 : Nat) (v1 : Option Nat) (h : hH) (Q : hH → Prop) : Prop :=
pV h v1 7 5 (.int (0:Int32)) fun h15 =>
f_X2_leave_l7 E v0 Q (fun h => Q h) 1000000 v1 (0:Int32) h15
def f_X2_foresee_l49 (E : Nat → Nat) (v0 : Nat) (Q : Option Nat → hH → Prop) (K127 : Option Nat → Option Nat → Int32 → hH → Prop) : Nat → Option Nat → Option Nat → Int32 → Int32 → hH → Prop
  | 0, _, _, _, _, _ => False
  | n + 1, l1, l3, l4, l5, h => gR h (some v0) 1 6 fun x1 =>
isT h x1 16 fun a4 => f_J2_size E a4 h (fun x3 h2 =>
cnd (x3 ≤ l5) (K127 l1 l3 l4 h2) (gR h2 (some v0) 1 6 fun x5 =>
isT h2 x5 16 fun a8 => f_J2_get E a8 l5 h2 (fun x7 h6 =>
ckT h6 x7 6 (gI h6 x7 6 0 fun x9 =>
gI h6 l1 7 0 fun x10 =>
cnd (x9 = x10) (gI h6 x7 6 1 fun x11 =>
cnd (x11 = l4) (gI h6 x7 6 2 fun x12 =>
gI h6 x7 6 2 fun x13 =>
ldI h6 l3 0 x13 fun x14 =>
gI h6 x7 6 3 fun x15 =>
stI h6 l3 0 x12 (iRem (x14 + x15) (10000:Int32)) fun h16 =>
(f_X2_foresee_l49 E v0 Q K127 n) l1 l3 l4 (l5 + (1:Int32)) h16) ((f_X2_foresee_l49 E v0 Q K127 n) l1 l3 l4 (l5 + (1:Int32)) h6)) ((f_X2_foresee_l49 E v0 Q K127 n) l1 l3 l4 (l5 + (1:Int32)) h6)))))
def f_X2_foresee_l14 (E : Nat → Nat) (v0 : Nat) (Q : Option Nat → hH → Prop) (K133 : Option Nat → hH → Prop) : Nat → Option Nat → Option Nat → Int32 → hH → Prop
  | 0, _, _, _, _ => False
  | n + 1, l1, l3, l4, h => gR h (some v0) 1 4 fun x17 =>
isT h x17 16 fun a20 => f_J2_size E a20 h (fun x19 h18 =>
cnd (x19 ≤ l4) (K133 l3 h18) (gR h18 (some v0) 1 0 fun x21 =>
gR h18 (some v0) 1 4 fun x22 =>
isT h18 x22 16 fun a25 => f_J2_get E a25 l4 h18 (fun x24 h23 =>
ckA h23 x24 5 (isT h23 x21 2 fun a27 => f_X3_execute E a27 x24 l3 h23 (fun h26 =>
f_X2_foresee_l49 E v0 Q (fun l1 l3 l4 h => (f_X2_foresee_l14 E v0 Q K133 n) l1 l3 (l4 + (1:Int32)) h) 1000000 l1 l3 l4 (0:Int32) h26)))))
def f_X2_foresee (E : Nat → Nat) (v0 : Nat) (v1 : Option Nat) (v2 : Int32) (h : hH) (Q : Option Nat → hH → Prop) : Prop :=
gR h v1 7 3 fun x28 =>
clI h x28 16 fun q29 h30 =>
ckA h30 (some q29) 0 (f_X2_foresee_l14 E v0 Q (fun l3 h => Q l3 h) 1000000 v1 (some q29) v2 h30)
def f_X1_init (E : Nat → Nat) (v0 : Nat) (h : hH) (Q : hH → Prop) : Prop :=
nO h 1 [va_rf none, va_rf none, va_rf none, va_rf none, va_rf none, va_rf none, va_rf none, .int 0] fun q1 h2 =>
f_X2_init E q1 h2 (fun h3 =>
pV h3 (some v0) 0 0 (va_rf (some q1)) fun h4 =>
nO h4 19 [va_rf none, .int 0, .int 0] fun q5 h6 =>
f_J5_init E q5 h6 (fun h7 =>
pV h7 (some v0) 0 1 (va_rf (some q5)) fun h8 =>
nA h8 1 (900:Int32) 900 fun q9 h10 =>
pV h10 (some v0) 0 2 (va_rf (some q9)) fun h11 =>
pV h11 (some v0) 0 4 (.int (-1:Int32)) fun h12 =>
nO h12 20 [va_rf none, .int 0, .int 0, .int 0] fun q13 h14 =>
f_J7_init E q13 h14 (fun h15 =>
pV h15 (some v0) 0 5 (va_rf (some q13)) fun h16 =>
Q h16)))
def f_X1_undo (E : Nat → Nat) (v0 : Nat) (h : hH) (Q : Int32 → hH → Prop) : Prop :=
gR h (some v0) 0 1 fun x1 =>
isT h x1 19 fun a4 => f_J5_isEmpty E a4 h (fun x3 h2 =>
cnd (x3 = (0:Int32)) (gR h2 (some v0) 0 1 fun x5 =>
isT h2 x5 19 fun a8 => f_J5_removeLast E a8 h2 (fun x7 h6 =>
ckT h6 x7 1 (pV h6 (some v0) 0 0 (va_rf x7) fun h9 =>
gR h9 (some v0) 0 1 fun x10 =>
isT h9 x10 19 fun a13 => f_J5_size E a13 h9 (fun x12 h11 =>
Q x12 h11)))) (Q (-1:Int32) h2))
def f_X1_undoCount (E : Nat → Nat) (v0 : Nat) (h : hH) (Q : Int32 → hH → Prop) : Prop :=
gR h (some v0) 0 1 fun x1 =>
isT h x1 19 fun a4 => f_J5_size E a4 h (fun x3 h2 =>
Q x3 h2)
def f_X1_feed_l69 (E : Nat → Nat) (v0 : Nat) (Q : Int32 → hH → Prop) (K105 : Option Nat → Int32 → Int32 → hH → Prop) : Nat → Option Nat → Int32 → Int32 → Int32 → Int32 → hH → Prop
  | 0, _, _, _, _, _, _ => False
  | n + 1, l6, l7, l8, l9, l10, h => cnd (l10 < (0:Int32)) (K105 l6 l7 l8 h) (gR h (some v0) 0 2 fun x1 =>
gI h (some v0) 0 3 fun x2 =>
stI h x1 1 x2 ((iUsh l9 l10).toInt8.toInt32) fun h3 =>
gI h3 (some v0) 0 3 fun x4 =>
pV h3 (some v0) 0 3 (.int (x4 + (1:Int32))) fun h5 =>
(f_X1_feed_l69 E v0 Q K105 n) l6 l7 l8 l9 (l10 + (-8:Int32)) h5)
def f_X1_feed_l51 (E : Nat → Nat) (v0 : Nat) (Q : Int32 → hH → Prop) (K111 : hH → Prop) : Nat → Option Nat → Int32 → Int32 → hH → Prop
  | 0, _, _, _, _ => False
  | n + 1, l6, l7, l8, h => cnd (l7 ≤ l8) (K111 h) (ldI h l6 0 l8 fun x6 =>
f_X1_feed_l69 E v0 Q (fun l6 l7 l8 h => (f_X1_feed_l51 E v0 Q K111 n) l6 l7 (l8 + (1:Int32)) h) 1000000 l6 l7 l8 x6 (24:Int32) h)
def f_X1_feed (E : Nat → Nat) (v0 : Nat) (v1 : Int32) (v2 : Int32) (v3 : Int32) (v4 : Int32) (v5 : Int32) (h : hH) (Q : Int32 → hH → Prop) : Prop :=
gI h (some v0) 0 3 fun x7 =>
cnd ((x7 + (20:Int32)) ≤ (900:Int32)) (nA h 0 (5:Int32) 5 fun q8 h9 =>
stI h9 (some q8) 0 (0:Int32) v1 fun h10 =>
stI h10 (some q8) 0 (1:Int32) v2 fun h11 =>
stI h11 (some q8) 0 (2:Int32) v3 fun h12 =>
stI h12 (some q8) 0 (3:Int32) v4 fun h13 =>
stI h13 (some q8) 0 (4:Int32) v5 fun h14 =>
aLn h14 (some q8) 0 fun x15 =>
f_X1_feed_l51 E v0 Q (fun h => gI h (some v0) 0 3 fun x16 =>
Q x16 h) 1000000 (some q8) x15 (0:Int32) h14) (Q (-3:Int32) h)
def f_X1_errorPosition (E : Nat → Nat) (v0 : Nat) (h : hH) (Q : Int32 → hH → Prop) : Prop :=
gI h (some v0) 0 4 fun x1 =>
Q x1 h
def f_X1_members (E : Nat → Nat) (v0 : Nat) (h : hH) (Q : Int32 → hH → Prop) : Prop :=
gR h (some v0) 0 0 fun x1 =>
gR h x1 1 3 fun x2 =>
isT h x2 16 fun a5 => f_J2_size E a5 h (fun x4 h3 =>
Q x4 h3)
def f_X1_count (E : Nat → Nat) (v0 : Nat) (v1 : Int32) (h : hH) (Q : Int32 → hH → Prop) : Prop :=
cnd (v1 = (0:Int32)) (isT h (some v0) 0 fun a3 => f_X1_members E a3 h (fun x2 h1 =>
Q x2 h1)) <| cnd (v1 = (1:Int32)) (gR h (some v0) 0 0 fun x4 =>
gR h x4 1 4 fun x5 =>
isT h x5 16 fun a8 => f_J2_size E a8 h (fun x7 h6 =>
Q x7 h6)) <| cnd (v1 = (2:Int32)) (gR h (some v0) 0 0 fun x9 =>
gR h x9 1 5 fun x10 =>
isT h x10 17 fun a13 => f_J4_size E a13 h (fun x12 h11 =>
Q x12 h11)) <| cnd (v1 = (3:Int32)) (gR h (some v0) 0 0 fun x14 =>
gR h x14 1 6 fun x15 =>
isT h x15 16 fun a18 => f_J2_size E a18 h (fun x17 h16 =>
Q x17 h16)) <| Q (-2:Int32) h
def f_X1_memberNamed_l2 (E : Nat → Nat) (v0 : Nat) (Q : Int32 → hH → Prop) (K29 : Int32 → hH → Prop) (K37 : hH → Prop) : Nat → Int32 → Int32 → hH → Prop
  | 0, _, _, _ => False
  | n + 1, l1, l2, h => isT h (some v0) 0 fun a3 => f_X1_members E a3 h (fun x2 h1 =>
cnd (x2 ≤ l2) (K37 h1) (cnd (l1 = (0:Int32)) ((f_X1_memberNamed_l2 E v0 Q K29 K37 n) l1 (l2 + (1:Int32)) h1) (gR h1 (some v0) 0 0 fun x4 =>
isT h1 x4 1 fun a7 => f_X2_member E a7 l2 h1 (fun x6 h5 =>
gI h5 x6 7 1 fun x8 =>
cnd (x8 = l1) (K29 l2 h5) ((f_X1_memberNamed_l2 E v0 Q K29 K37 n) l1 (l2 + (1:Int32)) h5)))))
def f_X1_memberNamed (E : Nat → Nat) (v0 : Nat) (v1 : Int32) (h : hH) (Q : Int32 → hH → Prop) : Prop :=
f_X1_memberNamed_l2 E v0 Q (fun l2 h => Q l2 h) (fun h => Q (-1:Int32) h) 1000000 v1 (0:Int32) h
def f_X1_isSetting_j9 (E : Nat → Nat) (Q : Int32 → hH → Prop) (h : hH) : Prop :=
Q (1:Int32) h
def f_X1_isSetting (E : Nat → Nat) (v0 : Int32) (h : hH) (Q : Int32 → hH → Prop) : Prop :=
cnd (v0 = (0:Int32)) (f_X1_isSetting_j9 E Q h) (cnd (v0 = (1:Int32)) (f_X1_isSetting_j9 E Q h) (Q (0:Int32) h))
def f_X1_getSetting (E : Nat → Nat) (v0 : Nat) (v1 : Int32) (h : hH) (Q : Int32 → hH → Prop) : Prop :=
f_X1_isSetting E v1 h (fun x2 h1 =>
cnd (x2 = (0:Int32)) (Q (-2:Int32) h1) (gR h1 (some v0) 0 0 fun x3 =>
gR h1 x3 1 2 fun x4 =>
ldI h1 x4 0 v1 fun x5 =>
Q x5 h1))
def f_X1_winner (E : Nat → Nat) (v0 : Nat) (v1 : Int32) (h : hH) (Q : Int32 → hH → Prop) : Prop :=
gR h (some v0) 0 0 fun x1 =>
isT h x1 1 fun a4 => f_X2_winner E a4 v1 h (fun x3 h2 =>
Q x3 h2)
def f_X1_wrongMembers_j38 (E : Nat → Nat) (v0 : Nat) (Q : Int32 → hH → Prop) (K4 : Int32 → Int32 → hH → Prop) (s0 : Int32) (s1 : Int32) (l2 : Int32) (h : hH) : Prop :=
K4 (s0 ||| s1) (l2 + (1:Int32)) h
def f_X1_wrongMembers_l4 (E : Nat → Nat) (v0 : Nat) (Q : Int32 → hH → Prop) (K46 : Int32 → hH → Prop) : Nat → Int32 → Int32 → hH → Prop
  | 0, _, _, _ => False
  | n + 1, l1, l2, h => isT h (some v0) 0 fun a3 => f_X1_members E a3 h (fun x2 h1 =>
cnd (x2 ≤ l2) (K46 l1 h1) (gR h1 (some v0) 0 0 fun x4 =>
gR h1 (some v0) 0 0 fun x5 =>
isT h1 x5 1 fun a8 => f_X2_member E a8 l2 h1 (fun x7 h6 =>
isT h6 x4 1 fun a11 => f_X2_isWrong E a11 x7 h6 (fun x10 h9 =>
cnd (x10 = (0:Int32)) (f_X1_wrongMembers_j38 E v0 Q (f_X1_wrongMembers_l4 E v0 Q K46 n) l1 (0:Int32) l2 h9) (f_X1_wrongMembers_j38 E v0 Q (f_X1_wrongMembers_l4 E v0 Q K46 n) l1 ((1:Int32) <<< (l2 &&& 31)) l2 h9)))))
def f_X1_wrongMembers (E : Nat → Nat) (v0 : Nat) (h : hH) (Q : Int32 → hH → Prop) : Prop :=
f_X1_wrongMembers_l4 E v0 Q (fun l1 h => Q l1 h) 7 (0:Int32) (0:Int32) h
def f_X1_reached (E : Nat → Nat) (v0 : Nat) (v1 : Int32) (h : hH) (Q : Int32 → hH → Prop) : Prop :=
cnd (v1 = (0:Int32)) (gR h (some v0) 0 0 fun x1 =>
isT h x1 1 fun a4 => f_X2_least E a4 h (fun x3 h2 =>
Q x3 h2)) (gR h (some v0) 0 0 fun x5 =>
isT h x5 1 fun a8 => f_X2_greatest E a8 h (fun x7 h6 =>
Q x7 h6))
def f_X1_meanTurns_j42 (E : Nat → Nat) (v0 : Nat) (Q : UInt64 → hH → Prop) (K4 : Int32 → Int32 → hH → Prop) (s0 : Int32) (s1 : Int32) (l2 : Int32) (h : hH) : Prop :=
K4 (s0 + s1) (l2 + (1:Int32)) h
def f_X1_meanTurns_l4 (E : Nat → Nat) (v0 : Nat) (Q : UInt64 → hH → Prop) (K50 : Int32 → hH → Prop) : Nat → Int32 → Int32 → hH → Prop
  | 0, _, _, _ => False
  | n + 1, l1, l2, h => isT h (some v0) 0 fun a3 => f_X1_members E a3 h (fun x2 h1 =>
cnd (x2 ≤ l2) (K50 l1 h1) (gR h1 (some v0) 0 0 fun x4 =>
isT h1 x4 1 fun a7 => f_X2_member E a7 l2 h1 (fun x6 h5 =>
gI h5 x6 7 5 fun x8 =>
cnd (x8 = (0:Int32)) (f_X1_meanTurns_j42 E v0 Q (f_X1_meanTurns_l4 E v0 Q K50 n) l1 (0:Int32) l2 h5) (gR h5 (some v0) 0 0 fun x9 =>
isT h5 x9 1 fun a12 => f_X2_member E a12 l2 h5 (fun x11 h10 =>
gI h10 x11 7 4 fun x13 =>
f_X1_meanTurns_j42 E v0 Q (f_X1_meanTurns_l4 E v0 Q K50 n) l1 x13 l2 h10)))))
def f_X1_meanTurns (E : Nat → Nat) (v0 : Nat) (h : hH) (Q : UInt64 → hH → Prop) : Prop :=
f_X1_meanTurns_l4 E v0 Q (fun l1 h => gR h (some v0) 0 0 fun x14 =>
isT h x14 1 fun a17 => f_X2_active E a17 h (fun x16 h15 =>
cnd (x16 = (0:Int32)) (Q (0:UInt64) h15) (gR h15 (some v0) 0 0 fun x18 =>
isT h15 x18 1 fun a21 => f_X2_active E a21 h15 (fun x20 h19 =>
vf_n64 (FP.ddiv (FP.i2d l1) (FP.i2d x20)) ∧ (Q (FP.ddiv (FP.i2d l1) (FP.i2d x20)) h19))))) 1000000 (0:Int32) (0:Int32) h
def f_X1_trueMembers_j72 (E : Nat → Nat) (v0 : Nat) (Q : Int32 → hH → Prop) (K37 : Int32 → Int32 → Option Nat → Int32 → Int32 → hH → Prop) (s0 : Int32) (s1 : Int32) (l1 : Int32) (l2 : Int32) (l3 : Option Nat) (l5 : Int32) (h : hH) : Prop :=
K37 l1 l2 l3 (s0 &&& s1) (l5 + (1:Int32)) h
def f_X1_trueMembers_l37 (E : Nat → Nat) (v0 : Nat) (Q : Int32 → hH → Prop) (K81 : Int32 → Int32 → Int32 → hH → Prop) : Nat → Int32 → Int32 → Option Nat → Int32 → Int32 → hH → Prop
  | 0, _, _, _, _, _, _ => False
  | n + 1, l1, l2, l3, l4, l5, h => cnd ((16:Int32) ≤ l5) (K81 l1 l2 l4 h) (gR h (some v0) 0 0 fun x1 =>
isT h x1 1 fun a4 => f_X2_member E a4 l2 h (fun x3 h2 =>
gR h2 x3 7 3 fun x5 =>
ldI h2 x5 0 l5 fun x6 =>
ldI h2 l3 0 l5 fun x7 =>
cnd (x6 = x7) (f_X1_trueMembers_j72 E v0 Q (f_X1_trueMembers_l37 E v0 Q K81 n) l4 (1:Int32) l1 l2 l3 l5 h2) (f_X1_trueMembers_j72 E v0 Q (f_X1_trueMembers_l37 E v0 Q K81 n) l4 (0:Int32) l1 l2 l3 l5 h2)))
def f_X1_trueMembers_j94 (E : Nat → Nat) (v0 : Nat) (Q : Int32 → hH → Prop) (K4 : Int32 → Int32 → hH → Prop) (s0 : Int32) (s1 : Int32) (l2 : Int32) (h : hH) : Prop :=
K4 (s0 ||| s1) (l2 + (1:Int32)) h
def f_X1_trueMembers_l4 (E : Nat → Nat) (v0 : Nat) (Q : Int32 → hH → Prop) (K102 : Int32 → hH → Prop) : Nat → Int32 → Int32 → hH → Prop
  | 0, _, _, _ => False
  | n + 1, l1, l2, h => isT h (some v0) 0 fun a10 => f_X1_members E a10 h (fun x9 h8 =>
cnd (x9 ≤ l2) (K102 l1 h8) (gR h8 (some v0) 0 0 fun x11 =>
gR h8 (some v0) 0 0 fun x12 =>
isT h8 x12 1 fun a15 => f_X2_member E a15 l2 h8 (fun x14 h13 =>
gI h13 x14 7 4 fun x16 =>
isT h13 x11 1 fun a19 => f_X2_truth E a19 x16 h13 (fun x18 h17 =>
f_X1_trueMembers_l37 E v0 Q (fun l1 l2 l4 h => cnd (l4 = (0:Int32)) (f_X1_trueMembers_j94 E v0 Q (f_X1_trueMembers_l4 E v0 Q K102 n) l1 (0:Int32) l2 h) (f_X1_trueMembers_j94 E v0 Q (f_X1_trueMembers_l4 E v0 Q K102 n) l1 ((1:Int32) <<< (l2 &&& 31)) l2 h)) 1000000 l1 l2 x18 (1:Int32) (0:Int32) h17))))
def f_X1_trueMembers (E : Nat → Nat) (v0 : Nat) (h : hH) (Q : Int32 → hH → Prop) : Prop :=
f_X1_trueMembers_l4 E v0 Q (fun l1 h => Q l1 h) 7 (0:Int32) (0:Int32) h
def f_X1_isMember (E : Nat → Nat) (v0 : Nat) (v1 : Int32) (h : hH) (Q : Int32 → hH → Prop) : Prop :=
isT h (some v0) 0 fun a3 => f_X1_members E a3 h (fun x2 h1 =>
f_X1_inRange E v1.toInt64 (0:Int64) ((x2 - (1:Int32)).toInt64) h1 (fun x5 h4 =>
nz x5 ∧ Q x5 h4))
def f_X1_isCell (E : Nat → Nat) (v0 : Int32) (h : hH) (Q : Int32 → hH → Prop) : Prop :=
f_X1_inRange E v0.toInt64 (0:Int64) (15:Int64) h (fun x2 h1 =>
nz x2 ∧ Q x2 h1)
def f_X1_remember_j20 (E : Nat → Nat) (v0 : Nat) (Q : hH → Prop) (h : hH) : Prop :=
gR h (some v0) 0 1 fun x1 =>
gR h (some v0) 0 0 fun x2 =>
isT h x2 1 fun a5 => f_X2_copy E a5 h (fun x4 h3 =>
isT h3 x1 19 fun a7 => f_J5_addLast E a7 x4 h3 (fun h6 =>
Q h6))
def f_X1_remember (E : Nat → Nat) (v0 : Nat) (h : hH) (Q : hH → Prop) : Prop :=
gR h (some v0) 0 1 fun x8 =>
isT h x8 19 fun a11 => f_J5_size E a11 h (fun x10 h9 =>
cnd (x10 = (10:Int32)) (gR h9 (some v0) 0 1 fun x12 =>
isT h9 x12 19 fun a15 => f_J5_removeFirst E a15 h9 (fun x14 h13 =>
f_X1_remember_j20 E v0 Q h13)) (f_X1_remember_j20 E v0 Q h9))
def f_X1_give (E : Nat → Nat) (v0 : Nat) (v1 : Int32) (v2 : Int32) (v3 : Int32) (v4 : Int32) (h : hH) (Q : Int32 → hH → Prop) : Prop :=
isT h (some v0) 0 fun a3 => f_X1_isMember E a3 v1 h (fun x2 h1 =>
cnd (x2 = (0:Int32)) (Q (-1:Int32) h1) (f_X1_inRange E v2.toInt64 (0:Int64) (5:Int64) h1 (fun x5 h4 =>
cnd (x5 = (0:Int32)) (Q (-2:Int32) h4) (f_X1_isCell E v3 h4 (fun x7 h6 =>
cnd (x7 = (0:Int32)) (Q (-2:Int32) h6) (f_X8_isOperand E v2 v4 h6 (fun x9 h8 =>
cnd (x9 = (0:Int32)) (Q (-2:Int32) h8) (gR h8 (some v0) 0 0 fun x10 =>
isT h8 x10 1 fun a13 => f_X2_member E a13 v1 h8 (fun x12 h11 =>
gI h11 x12 7 5 fun x14 =>
cnd (x14 = (0:Int32)) (Q (-4:Int32) h11) (gR h11 (some v0) 0 0 fun x15 =>
gR h11 x15 1 5 fun x16 =>
isT h11 x16 17 fun a19 => f_J4_size E a19 h11 (fun x18 h17 =>
cnd (x18 = (8:Int32)) (Q (-3:Int32) h17) (isT h17 (some v0) 0 fun a21 => f_X1_remember E a21 h17 (fun h20 =>
gR h20 (some v0) 0 0 fun x22 =>
isT h20 x22 1 fun a25 => f_X2_give E a25 v1 v2 v3 v4 h20 (fun x24 h23 =>
Q x24 h23))))))))))))))
def f_X1_seal (E : Nat → Nat) (v0 : Nat) (h : hH) (Q : Int32 → hH → Prop) : Prop :=
gR h (some v0) 0 0 fun x1 =>
gR h x1 1 4 fun x2 =>
isT h x2 16 fun a5 => f_J2_size E a5 h (fun x4 h3 =>
cnd (x4 = (40:Int32)) (Q (-3:Int32) h3) (isT h3 (some v0) 0 fun a7 => f_X1_remember E a7 h3 (fun h6 =>
gR h6 (some v0) 0 0 fun x8 =>
isT h6 x8 1 fun a11 => f_X2_seal E a11 h6 (fun x10 h9 =>
Q x10 h9))))
def f_X1_run (E : Nat → Nat) (v0 : Nat) (v1 : Int32) (v2 : Int32) (h : hH) (Q : Int32 → hH → Prop) : Prop :=
isT h (some v0) 0 fun a3 => f_X1_isMember E a3 v1 h (fun x2 h1 =>
cnd (x2 = (0:Int32)) (Q (-1:Int32) h1) (f_X1_inRange E v2.toInt64 (1:Int64) (40:Int64) h1 (fun x5 h4 =>
cnd (x5 = (0:Int32)) (Q (-2:Int32) h4) (gR h4 (some v0) 0 0 fun x6 =>
isT h4 x6 1 fun a9 => f_X2_member E a9 v1 h4 (fun x8 h7 =>
gI h7 x8 7 5 fun x10 =>
cnd (x10 = (0:Int32)) (Q (-4:Int32) h7) (isT h7 (some v0) 0 fun a12 => f_X1_remember E a12 h7 (fun h11 =>
gR h11 (some v0) 0 0 fun x13 =>
isT h11 x13 1 fun a16 => f_X2_member E a16 v1 h11 (fun x15 h14 =>
gR h14 (some v0) 0 0 fun x17 =>
gR h14 (some v0) 0 0 fun x18 =>
gR h14 (some v0) 0 0 fun x19 =>
isT h14 x19 1 fun a22 => f_X2_least E a22 h14 (fun x21 h20 =>
isT h20 x18 1 fun a25 => f_X2_mayRun E a25 x15 x21 h20 (fun x24 h23 =>
isT h23 x17 1 fun a28 => f_X2_run E a28 x15 (iMin v2 x24) h23 (fun x27 h26 =>
Q x27 h26)))))))))))
def f_X1_tick_l16 (E : Nat → Nat) (v0 : Nat) (Q : Int32 → hH → Prop) (K70 : Int32 → hH → Prop) : Nat → Int32 → Int32 → Int32 → hH → Prop
  | 0, _, _, _, _ => False
  | n + 1, l1, l2, l3, h => isT h (some v0) 0 fun a3 => f_X1_members E a3 h (fun x2 h1 =>
cnd (x2 ≤ l3) (K70 l2 h1) (gR h1 (some v0) 0 0 fun x4 =>
isT h1 x4 1 fun a7 => f_X2_member E a7 l3 h1 (fun x6 h5 =>
gR h5 (some v0) 0 0 fun x8 =>
gI h5 x6 7 2 fun x9 =>
gR h5 (some v0) 0 0 fun x10 =>
isT h5 x10 1 fun a13 => f_X2_mayRun E a13 x6 l1 h5 (fun x12 h11 =>
isT h11 x8 1 fun a16 => f_X2_run E a16 x6 (iMin x9 x12) h11 (fun x15 h14 =>
(f_X1_tick_l16 E v0 Q K70 n) l1 (l2 + x15) (l3 + (1:Int32)) h14)))))
def f_X1_tick (E : Nat → Nat) (v0 : Nat) (h : hH) (Q : Int32 → hH → Prop) : Prop :=
isT h (some v0) 0 fun a18 => f_X1_remember E a18 h (fun h17 =>
gR h17 (some v0) 0 0 fun x19 =>
isT h17 x19 1 fun a22 => f_X2_least E a22 h17 (fun x21 h20 =>
f_X1_tick_l16 E v0 Q (fun l2 h => Q l2 h) 7 x21 (0:Int32) (0:Int32) h20))
def f_X1_fault (E : Nat → Nat) (v0 : Nat) (v1 : Int32) (v2 : Int32) (v3 : Int32) (v4 : Int32) (h : hH) (Q : Int32 → hH → Prop) : Prop :=
isT h (some v0) 0 fun a3 => f_X1_isMember E a3 v1 h (fun x2 h1 =>
cnd (x2 = (0:Int32)) (Q (-1:Int32) h1) (f_X1_inRange E v2.toInt64 (0:Int64) (39:Int64) h1 (fun x5 h4 =>
cnd (x5 = (0:Int32)) (Q (-2:Int32) h4) (f_X1_isCell E v3 h4 (fun x7 h6 =>
cnd (x7 = (0:Int32)) (Q (-2:Int32) h6) (f_X1_inRange E v4.toInt64 (1:Int64) (9999:Int64) h6 (fun x9 h8 =>
cnd (x9 = (0:Int32)) (Q (-2:Int32) h8) (gR h8 (some v0) 0 0 fun x10 =>
isT h8 x10 1 fun a13 => f_X2_member E a13 v1 h8 (fun x12 h11 =>
gI h11 x12 7 5 fun x14 =>
cnd (x14 = (0:Int32)) (Q (-4:Int32) h11) (gR h11 (some v0) 0 0 fun x15 =>
isT h11 x15 1 fun a18 => f_X2_member E a18 v1 h11 (fun x17 h16 =>
gI h16 x17 7 4 fun x19 =>
cnd (x19 ≤ v2) (gR h16 (some v0) 0 0 fun x20 =>
gR h16 x20 1 6 fun x21 =>
isT h16 x21 16 fun a24 => f_J2_size E a24 h16 (fun x23 h22 =>
cnd (x23 = (10:Int32)) (Q (-3:Int32) h22) (isT h22 (some v0) 0 fun a26 => f_X1_remember E a26 h22 (fun h25 =>
gR h25 (some v0) 0 0 fun x27 =>
gR h25 x27 1 6 fun x28 =>
nO h25 6 [.int 0, .int 0, .int 0, .int 0] fun q29 h30 =>
f_X9_init E q29 v1 v2 v3 v4 h30 (fun h31 =>
isT h31 x28 16 fun a34 => f_J2_add E a34 (some q29) h31 (fun x33 h32 =>
gR h32 (some v0) 0 0 fun x35 =>
gR h32 x35 1 6 fun x36 =>
isT h32 x36 16 fun a39 => f_J2_size E a39 h32 (fun x38 h37 =>
Q x38 h37))))))) (Q (-4:Int32) h16))))))))))))
def f_X1_heal (E : Nat → Nat) (v0 : Nat) (v1 : Int32) (h : hH) (Q : Int32 → hH → Prop) : Prop :=
isT h (some v0) 0 fun a3 => f_X1_isMember E a3 v1 h (fun x2 h1 =>
cnd (x2 = (0:Int32)) (Q (-1:Int32) h1) (gR h1 (some v0) 0 0 fun x4 =>
gR h1 (some v0) 0 0 fun x5 =>
isT h1 x5 1 fun a8 => f_X2_member E a8 v1 h1 (fun x7 h6 =>
isT h6 x4 1 fun a11 => f_X2_whyNot E a11 x7 h6 (fun x10 h9 =>
cnd (x10 = (0:Int32)) (isT h9 (some v0) 0 fun a13 => f_X1_remember E a13 h9 (fun h12 =>
gR h12 (some v0) 0 0 fun x14 =>
gR h12 (some v0) 0 0 fun x15 =>
isT h12 x15 1 fun a18 => f_X2_member E a18 v1 h12 (fun x17 h16 =>
isT h16 x14 1 fun a21 => f_X2_heal E a21 x17 h16 (fun x20 h19 =>
Q x20 h19)))) (Q (-4:Int32) h9)))))
def f_X1_healAll (E : Nat → Nat) (v0 : Nat) (h : hH) (Q : Int32 → hH → Prop) : Prop :=
gR h (some v0) 0 0 fun x1 =>
isT h x1 1 fun a4 => f_X2_copy E a4 h (fun x3 h2 =>
gR h2 (some v0) 0 0 fun x5 =>
isT h2 x5 1 fun a8 => f_X2_healAll E a8 h2 (fun x7 h6 =>
cnd (x7 = (0:Int32)) (Q (-1:Int32) h6) (gR h6 (some v0) 0 0 fun x9 =>
pV h6 (some v0) 0 0 (va_rf x3) fun h10 =>
isT h10 (some v0) 0 fun a12 => f_X1_remember E a12 h10 (fun h11 =>
pV h11 (some v0) 0 0 (va_rf x9) fun h13 =>
Q x7 h13))))
def f_X1_join (E : Nat → Nat) (v0 : Nat) (v1 : Int32) (h : hH) (Q : Int32 → hH → Prop) : Prop :=
f_X1_inRange E v1.toInt64 (1:Int64) (4:Int64) h (fun x2 h1 =>
cnd (x2 = (0:Int32)) (Q (-2:Int32) h1) (isT h1 (some v0) 0 fun a5 => f_X1_members E a5 h1 (fun x4 h3 =>
cnd (x4 = (6:Int32)) (Q (-3:Int32) h3) (gR h3 (some v0) 0 0 fun x6 =>
gR h3 (some v0) 0 0 fun x7 =>
isT h3 x7 1 fun a10 => f_X2_least E a10 h3 (fun x9 h8 =>
isT h8 x6 1 fun a13 => f_X2_donorAt E a13 x9 (-1:Int32) h8 (fun x12 h11 =>
cnd (x12 = (-1:Int32)) (Q (-4:Int32) h11) (isT h11 (some v0) 0 fun a15 => f_X1_remember E a15 h11 (fun h14 =>
gR h14 (some v0) 0 0 fun x16 =>
isT h14 x16 1 fun a19 => f_X2_join E a19 v1 x12 h14 (fun x18 h17 =>
Q x18 h17)))))))))
def f_X1_leave (E : Nat → Nat) (v0 : Nat) (v1 : Int32) (h : hH) (Q : Int32 → hH → Prop) : Prop :=
isT h (some v0) 0 fun a3 => f_X1_isMember E a3 v1 h (fun x2 h1 =>
cnd (x2 = (0:Int32)) (Q (-1:Int32) h1) (gR h1 (some v0) 0 0 fun x4 =>
isT h1 x4 1 fun a7 => f_X2_member E a7 v1 h1 (fun x6 h5 =>
gI h5 x6 7 5 fun x8 =>
cnd (x8 = (0:Int32)) (Q (-4:Int32) h5) (isT h5 (some v0) 0 fun a10 => f_X1_remember E a10 h5 (fun h9 =>
gR h9 (some v0) 0 0 fun x11 =>
gR h9 (some v0) 0 0 fun x12 =>
isT h9 x12 1 fun a15 => f_X2_member E a15 v1 h9 (fun x14 h13 =>
isT h13 x11 1 fun a17 => f_X2_leave E a17 x14 h13 (fun h16 =>
gR h16 (some v0) 0 0 fun x18 =>
isT h16 x18 1 fun a21 => f_X2_active E a21 h16 (fun x20 h19 =>
Q x20 h19))))))))
def f_X1_setSetting (E : Nat → Nat) (v0 : Nat) (v1 : Int32) (v2 : Int32) (h : hH) (Q : Int32 → hH → Prop) : Prop :=
f_X1_isSetting E v1 h (fun x2 h1 =>
cnd (x2 = (0:Int32)) (Q (-2:Int32) h1) (ldI h1 (some (E 1)) 0 v1 fun x3 =>
f_X1_inRange E v2.toInt64 (1:Int64) x3.toInt64 h1 (fun x5 h4 =>
cnd (x5 = (0:Int32)) (Q (-2:Int32) h4) (isT h4 (some v0) 0 fun a7 => f_X1_remember E a7 h4 (fun h6 =>
gR h6 (some v0) 0 0 fun x8 =>
gR h6 x8 1 2 fun x9 =>
ldI h6 x9 0 v1 fun x10 =>
gR h6 (some v0) 0 0 fun x11 =>
gR h6 x11 1 2 fun x12 =>
stI h6 x12 0 v1 v2 fun h13 =>
Q x10 h13)))))
def f_X1_outputAt (E : Nat → Nat) (v0 : Nat) (v1 : Int32) (h : hH) (Q : Int32 → hH → Prop) : Prop :=
gR h (some v0) 0 5 fun x1 =>
isT h x1 20 fun a4 => f_J7_length E a4 h (fun x3 h2 =>
f_X1_inRange E v1.toInt64 (0:Int64) ((x3 - (1:Int32)).toInt64) h2 (fun x6 h5 =>
cnd (x6 = (0:Int32)) (Q (-1:Int32) h5) (gR h5 (some v0) 0 5 fun x7 =>
isT h5 x7 20 fun a10 => f_J7_charAt E a10 v1 h5 (fun x9 h8 =>
Q x9 h8))))
def f_X1_requireIndex (E : Nat → Nat) (v0 : Int32) (v1 : Int32) (h : hH) (Q : hH → Prop) (X : String → Nat → hH → Prop) : Prop :=
f_X1_inRange E v0.toInt64 (0:Int64) ((v1 - (1:Int32)).toInt64) h (fun x2 h1 =>
cnd (x2 = (0:Int32)) (∀ q9, X ioobe q9 h1) (Q h1))
def f_X1_memberAt (E : Nat → Nat) (v0 : Nat) (v1 : Int32) (h : hH) (Q : Option Nat → hH → Prop) (X : String → Nat → hH → Prop) : Prop :=
isT h (some v0) 0 fun a3 => f_X1_members E a3 h (fun x2 h1 =>
f_X1_requireIndex E v1 x2 h1 (fun h4 =>
gR h4 (some v0) 0 0 fun x5 =>
isT h4 x5 1 fun a8 => f_X2_member E a8 v1 h4 (fun x7 h6 =>
Q x7 h6)) X)
def f_X1_memberNumber (E : Nat → Nat) (v0 : Nat) (v1 : Int32) (v2 : Int32) (h : hH) (Q : Int32 → hH → Prop) (X : String → Nat → hH → Prop) : Prop :=
isT h (some v0) 0 fun a3 => f_X1_memberAt E a3 v1 h (fun x2 h1 =>
cnd (v2 = (0:Int32)) (gI h1 x2 7 2 fun x4 =>
Q x4 h1) <| cnd (v2 = (1:Int32)) (gI h1 x2 7 4 fun x5 =>
Q x5 h1) <| cnd (v2 = (2:Int32)) (gI h1 x2 7 5 fun x6 =>
cnd (x6 = (0:Int32)) (Q (0:Int32) h1) (Q (1:Int32) h1)) <| cnd (v2 = (3:Int32)) (gI h1 x2 7 6 fun x7 =>
Q x7 h1) <| cnd (v2 = (4:Int32)) (gI h1 x2 7 7 fun x8 =>
Q x8 h1) <| cnd (v2 = (5:Int32)) (gI h1 x2 7 8 fun x9 =>
Q x9 h1) <| Q (-2:Int32) h1) X
def f_X1_cellOf (E : Nat → Nat) (v0 : Nat) (v1 : Int32) (v2 : Int32) (h : hH) (Q : Int32 → hH → Prop) (X : String → Nat → hH → Prop) : Prop :=
isT h (some v0) 0 fun a3 => f_X1_memberAt E a3 v1 h (fun x2 h1 =>
f_X1_requireIndex E v2 (16:Int32) h1 (fun h4 =>
gR h4 x2 7 3 fun x5 =>
ldI h4 x5 0 v2 fun x6 =>
Q x6 h4) X) X
def f_X1_turnAt (E : Nat → Nat) (v0 : Nat) (v1 : Int32) (h : hH) (Q : Option Nat → hH → Prop) (X : String → Nat → hH → Prop) : Prop :=
gR h (some v0) 0 0 fun x1 =>
gR h x1 1 4 fun x2 =>
isT h x2 16 fun a5 => f_J2_size E a5 h (fun x4 h3 =>
f_X1_requireIndex E v1 x4 h3 (fun h6 =>
gR h6 (some v0) 0 0 fun x7 =>
gR h6 x7 1 4 fun x8 =>
isT h6 x8 16 fun a11 => f_J2_get E a11 v1 h6 (fun x10 h9 =>
ckA h9 x10 5 (Q x10 h9))) X)
def f_X1_commandCount (E : Nat → Nat) (v0 : Nat) (v1 : Int32) (h : hH) (Q : Int32 → hH → Prop) (X : String → Nat → hH → Prop) : Prop :=
isT h (some v0) 0 fun a3 => f_X1_turnAt E a3 v1 h (fun x2 h1 =>
aLn h1 x2 5 fun x4 =>
Q x4 h1) X
def f_X1_command (E : Nat → Nat) (v0 : Nat) (v1 : Int32) (v2 : Int32) (v3 : Int32) (h : hH) (Q : Int32 → hH → Prop) (X : String → Nat → hH → Prop) : Prop :=
isT h (some v0) 0 fun a3 => f_X1_turnAt E a3 v1 h (fun x2 h1 =>
aLn h1 x2 5 fun x4 =>
f_X1_inRange E v2.toInt64 (0:Int64) ((x4 - (1:Int32)).toInt64) h1 (fun x6 h5 =>
cnd (x6 = (0:Int32)) (Q (-1:Int32) h5) (cnd (v3 = (0:Int32)) (ldQ h5 x2 5 v2 fun x7 =>
gI h5 x7 5 0 fun x8 =>
Q x8 h5) <| cnd (v3 = (1:Int32)) (ldQ h5 x2 5 v2 fun x9 =>
gI h5 x9 5 2 fun x10 =>
Q x10 h5) <| cnd (v3 = (2:Int32)) (ldQ h5 x2 5 v2 fun x11 =>
gI h5 x11 5 3 fun x12 =>
Q x12 h5) <| cnd (v3 = (3:Int32)) (ldQ h5 x2 5 v2 fun x13 =>
gI h5 x13 5 4 fun x14 =>
Q x14 h5) <| Q (-2:Int32) h5))) X
def f_X1_faultNumber (E : Nat → Nat) (v0 : Nat) (v1 : Int32) (v2 : Int32) (h : hH) (Q : Int32 → hH → Prop) (X : String → Nat → hH → Prop) : Prop :=
gR h (some v0) 0 0 fun x1 =>
gR h x1 1 6 fun x2 =>
isT h x2 16 fun a5 => f_J2_size E a5 h (fun x4 h3 =>
f_X1_requireIndex E v1 x4 h3 (fun h6 =>
gR h6 (some v0) 0 0 fun x7 =>
gR h6 x7 1 6 fun x8 =>
isT h6 x8 16 fun a11 => f_J2_get E a11 v1 h6 (fun x10 h9 =>
ckT h9 x10 6 (cnd (v2 = (0:Int32)) (gI h9 x10 6 0 fun x12 =>
Q x12 h9) <| cnd (v2 = (1:Int32)) (gI h9 x10 6 1 fun x13 =>
Q x13 h9) <| cnd (v2 = (2:Int32)) (gI h9 x10 6 2 fun x14 =>
Q x14 h9) <| cnd (v2 = (3:Int32)) (gI h9 x10 6 3 fun x15 =>
Q x15 h9) <| Q (-2:Int32) h9))) X)
def f_X1_checksum (E : Nat → Nat) (v0 : Nat) (v1 : Int32) (v2 : Int32) (h : hH) (Q : Int32 → hH → Prop) (X : String → Nat → hH → Prop) : Prop :=
isT h (some v0) 0 fun a3 => f_X1_memberAt E a3 v1 h (fun x2 h1 =>
f_X1_inRange E v2.toInt64 (1:Int64) (31:Int64) h1 (fun x5 h4 =>
cnd (x5 = (0:Int32)) (Q (-2:Int32) h4) (isT h4 x2 7 fun a8 => f_X10_tree E a8 h4 (fun x7 h6 =>
gR h6 x7 8 0 fun x9 =>
ldI h6 x9 0 v2 fun x10 =>
Q x10 h6)))) X
def f_X1_rootAt (E : Nat → Nat) (v0 : Nat) (v1 : Int32) (v2 : Int32) (h : hH) (Q : Int32 → hH → Prop) (X : String → Nat → hH → Prop) : Prop :=
isT h (some v0) 0 fun a3 => f_X1_memberAt E a3 v1 h (fun x2 h1 =>
isT h1 x2 7 fun a6 => f_X10_rootAt E a6 v2 h1 (fun x5 h4 =>
Q x5 h4)) X
def f_X12_init (E : Nat → Nat) (v0 : Nat) (v1 : Option Nat) (v2 : Int32) (v3 : Int32) (h : hH) (Q : hH → Prop) (X : String → Nat → hH → Prop) : Prop :=
pV h (some v0) 9 4 (va_rf v1) fun h1 =>
isT h1 v1 0 fun a4 => f_X1_memberAt E a4 v2 h1 (fun x3 h2 =>
pV h2 (some v0) 9 0 (va_rf x3) fun h5 =>
isT h5 v1 0 fun a8 => f_X1_memberAt E a8 v3 h5 (fun x7 h6 =>
pV h6 (some v0) 9 1 (va_rf x7) fun h9 =>
gR h9 (some v0) 9 0 fun x10 =>
isT h9 x10 7 fun a13 => f_X10_first E a13 h9 (fun x12 h11 =>
gR h11 (some v0) 9 1 fun x14 =>
isT h11 x14 7 fun a17 => f_X10_first E a17 h11 (fun x16 h15 =>
pV h15 (some v0) 9 2 (.int (iMax x12 x16)) fun h18 =>
gR h18 (some v0) 9 0 fun x19 =>
gI h18 x19 7 4 fun x20 =>
gR h18 (some v0) 9 1 fun x21 =>
gI h18 x21 7 4 fun x22 =>
pV h18 (some v0) 9 3 (.int (iMin x20 x22)) fun h23 =>
Q h23))) X) X
def f_X12_differsAt (E : Nat → Nat) (v0 : Nat) (v1 : Int32) (h : hH) (Q : Int32 → hH → Prop) : Prop :=
gR h (some v0) 9 0 fun x1 =>
isT h x1 7 fun a4 => f_X10_rootAt E a4 v1 h (fun x3 h2 =>
gR h2 (some v0) 9 1 fun x5 =>
isT h2 x5 7 fun a8 => f_X10_rootAt E a8 v1 h2 (fun x7 h6 =>
cnd (x3 = x7) (Q (0:Int32) h6) (Q (1:Int32) h6)))
def f_X12_first_l5 (E : Nat → Nat) (v0 : Nat) (Q : Int32 → hH → Prop) (K21 : Int32 → hH → Prop) (K29 : hH → Prop) : Nat → Int32 → hH → Prop
  | 0, _, _ => False
  | n + 1, l1, h => gI h (some v0) 9 3 fun x1 =>
cnd (x1 < l1) (K29 h) (isT h (some v0) 9 fun a4 => f_X12_differsAt E a4 l1 h (fun x3 h2 =>
cnd (x3 = (0:Int32)) ((f_X12_first_l5 E v0 Q K21 K29 n) (l1 + (1:Int32)) h2) (K21 l1 h2)))
def f_X12_first (E : Nat → Nat) (v0 : Nat) (h : hH) (Q : Int32 → hH → Prop) : Prop :=
gI h (some v0) 9 2 fun x5 =>
f_X12_first_l5 E v0 Q (fun l1 h => Q l1 h) (fun h => Q (-1:Int32) h) 42 x5 h
def f_X1_firstWrongTurn (E : Nat → Nat) (v0 : Nat) (v1 : Int32) (v2 : Int32) (h : hH) (Q : Int32 → hH → Prop) (X : String → Nat → hH → Prop) : Prop :=
nO h 9 [va_rf none, va_rf none, .int 0, .int 0, va_rf none] fun q1 h2 =>
f_X12_init E q1 (some v0) v1 v2 h2 (fun h3 =>
isT h3 (some q1) 9 fun a6 => f_X12_first E a6 h3 (fun x5 h4 =>
Q x5 h4)) X
def f_X12_halve_l24 (E : Nat → Nat) (v0 : Nat) (Q : Int32 → hH → Prop) (K73 : hH → Prop) : Nat → hH → Prop
  | 0, _ => False
  | n + 1, h => gI h (some v0) 9 2 fun x1 =>
gI h (some v0) 9 3 fun x2 =>
cnd (x2 ≤ x1) (K73 h) (gI h (some v0) 9 2 fun x3 =>
gI h (some v0) 9 3 fun x4 =>
isT h (some v0) 9 fun a7 => f_X12_differsAt E a7 ((x3 + x4) / (2:Int32)) h (fun x6 h5 =>
cnd (x6 = (0:Int32)) (pV h5 (some v0) 9 2 (.int (((x3 + x4) / (2:Int32)) + (1:Int32))) fun h8 =>
(f_X12_halve_l24 E v0 Q K73 n) h8) (pV h5 (some v0) 9 3 (.int ((x3 + x4) / (2:Int32))) fun h9 =>
(f_X12_halve_l24 E v0 Q K73 n) h9)))
def f_X12_halve (E : Nat → Nat) (v0 : Nat) (h : hH) (Q : Int32 → hH → Prop) : Prop :=
gI h (some v0) 9 2 fun x10 =>
gI h (some v0) 9 3 fun x11 =>
cnd (x11 < x10) (Q (-1:Int32) h) (gI h (some v0) 9 3 fun x12 =>
isT h (some v0) 9 fun a15 => f_X12_differsAt E a15 x12 h (fun x14 h13 =>
cnd (x14 = (0:Int32)) (Q (-1:Int32) h13) (f_X12_halve_l24 E v0 Q (fun h => gI h (some v0) 9 2 fun x16 =>
Q x16 h) 8 h13)))
def f_X1_halvedTurn (E : Nat → Nat) (v0 : Nat) (v1 : Int32) (v2 : Int32) (h : hH) (Q : Int32 → hH → Prop) (X : String → Nat → hH → Prop) : Prop :=
nO h 9 [va_rf none, va_rf none, .int 0, .int 0, va_rf none] fun q1 h2 =>
f_X12_init E q1 (some v0) v1 v2 h2 (fun h3 =>
isT h3 (some q1) 9 fun a6 => f_X12_halve E a6 h3 (fun x5 h4 =>
Q x5 h4)) X
def f_X1_isHalvingRight (E : Nat → Nat) (v0 : Nat) (v1 : Int32) (v2 : Int32) (h : hH) (Q : Int32 → hH → Prop) (X : String → Nat → hH → Prop) : Prop :=
nO h 9 [va_rf none, va_rf none, .int 0, .int 0, va_rf none] fun q1 h2 =>
f_X12_init E q1 (some v0) v1 v2 h2 (fun h3 =>
isT h3 (some q1) 9 fun a6 => f_X12_first E a6 h3 (fun x5 h4 =>
nO h4 9 [va_rf none, va_rf none, .int 0, .int 0, va_rf none] fun q7 h8 =>
f_X12_init E q7 (some v0) v1 v2 h8 (fun h9 =>
isT h9 (some q7) 9 fun a12 => f_X12_halve E a12 h9 (fun x11 h10 =>
cnd (x5 = x11) (Q (1:Int32) h10) (Q (0:Int32) h10))) X)) X
def f_X1_descent (E : Nat → Nat) (v0 : Nat) (v1 : Int32) (v2 : Int32) (h : hH) (Q : Option Nat → hH → Prop) (X : String → Nat → hH → Prop) : Prop :=
nO h 10 [va_rf none, va_rf none, .int 0] fun q1 h2 =>
isT h2 (some v0) 0 fun a5 => f_X1_memberAt E a5 v1 h2 (fun x4 h3 =>
isT h3 x4 7 fun a8 => f_X10_tree E a8 h3 (fun x7 h6 =>
isT h6 (some v0) 0 fun a11 => f_X1_memberAt E a11 v2 h6 (fun x10 h9 =>
isT h9 x10 7 fun a14 => f_X10_tree E a14 h9 (fun x13 h12 =>
f_X13_init E q1 x7 x13 h12 (fun h15 =>
Q (some q1) h15))) X)) X
def f_X1_firstWrongCell (E : Nat → Nat) (v0 : Nat) (v1 : Int32) (v2 : Int32) (h : hH) (Q : Int32 → hH → Prop) (X : String → Nat → hH → Prop) : Prop :=
isT h (some v0) 0 fun a3 => f_X1_descent E a3 v1 v2 h (fun x2 h1 =>
gR h1 (some v0) 0 0 fun x4 =>
isT h1 x4 1 fun a7 => f_X2_member E a7 v1 h1 (fun x6 h5 =>
gI h5 x6 7 4 fun x8 =>
gR h5 (some v0) 0 0 fun x9 =>
isT h5 x9 1 fun a12 => f_X2_member E a12 v2 h5 (fun x11 h10 =>
gI h10 x11 7 4 fun x13 =>
cnd (x8 = x13) (isT h10 x2 10 fun a16 => f_X13_iterator E a16 h10 (fun x15 h14 =>
isT h14 x15 11 fun a25 => f_X14_hasNext E a25 h14 (fun x18 h17 =>
cnd (x18 = (0:Int32)) (Q (-1:Int32) h17) (isT h17 x15 11 fun a24 => f_X14_next E a24 h17 (fun x20 h19 =>
ckT h19 x20 22 (isT h19 x20 22 fun a23 => f_J20_intValue E a23 h19 (fun x22 h21 =>
Q x22 h21))))))) (Q (-4:Int32) h10)))) X
def f_X1_wrongCells_l13 (E : Nat → Nat) (v0 : Nat) (Q : Int32 → hH → Prop) (X : String → Nat → hH → Prop) (K48 : Int32 → hH → Prop) : Nat → Int32 → Option Nat → hH → Prop
  | 0, _, _, _ => False
  | n + 1, l3, l4, h => isT h l4 11 fun a9 => f_X14_hasNext E a9 h (fun x2 h1 =>
cnd (x2 = (0:Int32)) (K48 l3 h1) (isT h1 l4 11 fun a8 => f_X14_next E a8 h1 (fun x4 h3 =>
ckT h3 x4 22 (isT h3 x4 22 fun a7 => f_J20_intValue E a7 h3 (fun x6 h5 =>
(f_X1_wrongCells_l13 E v0 Q X K48 n) (l3 ||| ((1:Int32) <<< (x6 &&& 31))) l4 h5)))))
def f_X1_wrongCells (E : Nat → Nat) (v0 : Nat) (v1 : Int32) (v2 : Int32) (h : hH) (Q : Int32 → hH → Prop) (X : String → Nat → hH → Prop) : Prop :=
isT h (some v0) 0 fun a12 => f_X1_descent E a12 v1 v2 h (fun x11 h10 =>
isT h10 x11 10 fun a15 => f_X13_iterator E a15 h10 (fun x14 h13 =>
f_X1_wrongCells_l13 E v0 Q X (fun l3 h => Q l3 h) 1000000 (0:Int32) x14 h13)) X
def f_X1_comparisons_l16 (E : Nat → Nat) (v0 : Nat) (Q : Int32 → hH → Prop) (X : String → Nat → hH → Prop) (K44 : Option Nat → hH → Prop) : Nat → Option Nat → Int32 → Option Nat → hH → Prop
  | 0, _, _, _, _ => False
  | n + 1, l3, l4, l5, h => isT h l5 11 fun a6 => f_X14_hasNext E a6 h (fun x2 h1 =>
cnd (x2 = (0:Int32)) (K44 l3 h1) (isT h1 l5 11 fun a5 => f_X14_next E a5 h1 (fun x4 h3 =>
ckT h3 x4 22 ((f_X1_comparisons_l16 E v0 Q X K44 n) l3 (l4 + (1:Int32)) l5 h3))))
def f_X1_comparisons (E : Nat → Nat) (v0 : Nat) (v1 : Int32) (v2 : Int32) (h : hH) (Q : Int32 → hH → Prop) (X : String → Nat → hH → Prop) : Prop :=
isT h (some v0) 0 fun a9 => f_X1_descent E a9 v1 v2 h (fun x8 h7 =>
isT h7 x8 10 fun a12 => f_X13_iterator E a12 h7 (fun x11 h10 =>
f_X1_comparisons_l16 E v0 Q X (fun l3 h => gI h l3 10 2 fun x13 =>
Q x13 h) 1000000 x8 (0:Int32) x11 h10)) X
def f_X1_votes_j71 (E : Nat → Nat) (v0 : Nat) (Q : Int32 → hH → Prop) (X : String → Nat → hH → Prop) (K23 : Int32 → Int32 → Int32 → Int32 → hH → Prop) (s0 : Int32) (s1 : Int32) (l2 : Int32) (l3 : Int32) (l5 : Int32) (h : hH) : Prop :=
K23 l2 l3 (s0 + s1) (l5 + (1:Int32)) h
def f_X1_votes_j70 (E : Nat → Nat) (v0 : Nat) (Q : Int32 → hH → Prop) (X : String → Nat → hH → Prop) (K23 : Int32 → Int32 → Int32 → Int32 → hH → Prop) (s0 : Int32) (l2 : Int32) (l3 : Int32) (l5 : Int32) (h : hH) : Prop :=
f_X1_votes_j71 E v0 Q X K23 s0 (0:Int32) l2 l3 l5 h
def f_X1_votes_l23 (E : Nat → Nat) (v0 : Nat) (Q : Int32 → hH → Prop) (X : String → Nat → hH → Prop) (K80 : Int32 → hH → Prop) : Nat → Int32 → Int32 → Int32 → Int32 → hH → Prop
  | 0, _, _, _, _, _ => False
  | n + 1, l2, l3, l4, l5, h => isT h (some v0) 0 fun a3 => f_X1_members E a3 h (fun x2 h1 =>
cnd (x2 ≤ l5) (K80 l4 h1) (gR h1 (some v0) 0 0 fun x4 =>
isT h1 x4 1 fun a7 => f_X2_member E a7 l5 h1 (fun x6 h5 =>
gI h5 x6 7 5 fun x8 =>
cnd (x8 = (0:Int32)) (f_X1_votes_j70 E v0 Q X (f_X1_votes_l23 E v0 Q X K80 n) l4 l2 l3 l5 h5) (gR h5 (some v0) 0 0 fun x9 =>
isT h5 x9 1 fun a12 => f_X2_member E a12 l5 h5 (fun x11 h10 =>
isT h10 x11 7 fun a15 => f_X10_rootAt E a15 l2 h10 (fun x14 h13 =>
cnd (x14 = l3) (f_X1_votes_j71 E v0 Q X (f_X1_votes_l23 E v0 Q X K80 n) l4 (1:Int32) l2 l3 l5 h13) (f_X1_votes_j70 E v0 Q X (f_X1_votes_l23 E v0 Q X K80 n) l4 l2 l3 l5 h13)))))))
def f_X1_votes (E : Nat → Nat) (v0 : Nat) (v1 : Int32) (v2 : Int32) (h : hH) (Q : Int32 → hH → Prop) (X : String → Nat → hH → Prop) : Prop :=
isT h (some v0) 0 fun a18 => f_X1_memberAt E a18 v1 h (fun x17 h16 =>
isT h16 x17 7 fun a21 => f_X10_rootAt E a21 v2 h16 (fun x20 h19 =>
cnd (x20 = (-1:Int32)) (Q (-1:Int32) h19) (f_X1_votes_l23 E v0 Q X (fun l4 h => Q l4 h) 7 v2 x20 (0:Int32) (0:Int32) h19))) X
def f_X1_isWrong (E : Nat → Nat) (v0 : Nat) (v1 : Int32) (h : hH) (Q : Int32 → hH → Prop) (X : String → Nat → hH → Prop) : Prop :=
gR h (some v0) 0 0 fun x1 =>
isT h (some v0) 0 fun a4 => f_X1_memberAt E a4 v1 h (fun x3 h2 =>
isT h2 x1 1 fun a7 => f_X2_isWrong E a7 x3 h2 (fun x6 h5 =>
nz x6 ∧ Q x6 h5)) X
def f_X1_donorFor (E : Nat → Nat) (v0 : Nat) (v1 : Int32) (h : hH) (Q : Int32 → hH → Prop) (X : String → Nat → hH → Prop) : Prop :=
gR h (some v0) 0 0 fun x1 =>
isT h (some v0) 0 fun a4 => f_X1_memberAt E a4 v1 h (fun x3 h2 =>
gI h2 x3 7 4 fun x5 =>
isT h2 x1 1 fun a8 => f_X2_donorAt E a8 x5 v1 h2 (fun x7 h6 =>
Q x7 h6)) X
def f_X1_whyNot (E : Nat → Nat) (v0 : Nat) (v1 : Int32) (h : hH) (Q : Int32 → hH → Prop) (X : String → Nat → hH → Prop) : Prop :=
gR h (some v0) 0 0 fun x1 =>
isT h (some v0) 0 fun a4 => f_X1_memberAt E a4 v1 h (fun x3 h2 =>
isT h2 x1 1 fun a7 => f_X2_whyNot E a7 x3 h2 (fun x6 h5 =>
Q x6 h5)) X
def f_X1_mayRun (E : Nat → Nat) (v0 : Nat) (v1 : Int32) (h : hH) (Q : Int32 → hH → Prop) (X : String → Nat → hH → Prop) : Prop :=
gR h (some v0) 0 0 fun x1 =>
isT h (some v0) 0 fun a4 => f_X1_memberAt E a4 v1 h (fun x3 h2 =>
gR h2 (some v0) 0 0 fun x5 =>
isT h2 x5 1 fun a8 => f_X2_least E a8 h2 (fun x7 h6 =>
isT h6 x1 1 fun a11 => f_X2_mayRun E a11 x3 x7 h6 (fun x10 h9 =>
Q x10 h9))) X
def f_X1_truth (E : Nat → Nat) (v0 : Nat) (v1 : Int32) (v2 : Int32) (h : hH) (Q : Int32 → hH → Prop) (X : String → Nat → hH → Prop) : Prop :=
f_X1_requireIndex E v2 (16:Int32) h (fun h1 =>
gR h1 (some v0) 0 0 fun x2 =>
gR h1 x2 1 4 fun x3 =>
isT h1 x3 16 fun a6 => f_J2_size E a6 h1 (fun x5 h4 =>
f_X1_inRange E v1.toInt64 (0:Int64) x5.toInt64 h4 (fun x8 h7 =>
cnd (x8 = (0:Int32)) (Q (-1:Int32) h7) (gR h7 (some v0) 0 0 fun x9 =>
isT h7 x9 1 fun a12 => f_X2_truth E a12 v1 h7 (fun x11 h10 =>
ldI h10 x11 0 v2 fun x13 =>
Q x13 h10))))) X
def f_X1_foreseen (E : Nat → Nat) (v0 : Nat) (v1 : Int32) (v2 : Int32) (h : hH) (Q : Int32 → hH → Prop) (X : String → Nat → hH → Prop) : Prop :=
isT h (some v0) 0 fun a3 => f_X1_memberAt E a3 v1 h (fun x2 h1 =>
gI h1 x2 7 4 fun x4 =>
f_X1_requireIndex E v2 (16:Int32) h1 (fun h5 =>
gR h5 (some v0) 0 0 fun x6 =>
gR h5 (some v0) 0 0 fun x7 =>
isT h5 x7 1 fun a10 => f_X2_member E a10 v1 h5 (fun x9 h8 =>
isT h8 x6 1 fun a13 => f_X2_foresee E a13 x9 x4 h8 (fun x12 h11 =>
ldI h11 x12 0 v2 fun x14 =>
Q x14 h11))) X) X
def f_X1_lastWrite_l50 (E : Nat → Nat) (v0 : Nat) (Q : Int32 → hH → Prop) (X : String → Nat → hH → Prop) (K73 : Int32 → hH → Prop) (K82 : Int32 → Int32 → hH → Prop) : Nat → Int32 → Int32 → Option Nat → Int32 → Int32 → hH → Prop
  | 0, _, _, _, _, _, _ => False
  | n + 1, l2, l4, l5, l6, l7, h => cnd (l6 ≤ l7) (K82 l2 l4 h) (ldQ h l5 5 l7 fun x1 =>
isT h x1 5 fun a4 => f_X8_writes E a4 l2 h (fun x3 h2 =>
cnd (x3 = (0:Int32)) ((f_X1_lastWrite_l50 E v0 Q X K73 K82 n) l2 l4 l5 l6 (l7 + (1:Int32)) h2) (K73 l4 h2)))
def f_X1_lastWrite_l20 (E : Nat → Nat) (v0 : Nat) (Q : Int32 → hH → Prop) (X : String → Nat → hH → Prop) (K73 : Int32 → hH → Prop) (K88 : hH → Prop) : Nat → Int32 → Int32 → hH → Prop
  | 0, _, _, _ => False
  | n + 1, l2, l4, h => cnd (l4 < (0:Int32)) (K88 h) (gR h (some v0) 0 0 fun x5 =>
gR h x5 1 4 fun x6 =>
isT h x6 16 fun a9 => f_J2_get E a9 l4 h (fun x8 h7 =>
ckA h7 x8 5 (aLn h7 x8 5 fun x10 =>
f_X1_lastWrite_l50 E v0 Q X (fun l4 h => K73 l4 h) (fun l2 l4 h => (f_X1_lastWrite_l20 E v0 Q X K73 K88 n) l2 (l4 + (-1:Int32)) h) 1000000 l2 l4 x8 x10 (0:Int32) h7)))
def f_X1_lastWrite (E : Nat → Nat) (v0 : Nat) (v1 : Int32) (v2 : Int32) (h : hH) (Q : Int32 → hH → Prop) (X : String → Nat → hH → Prop) : Prop :=
isT h (some v0) 0 fun a13 => f_X1_memberAt E a13 v1 h (fun x12 h11 =>
gI h11 x12 7 4 fun x14 =>
f_X1_requireIndex E v2 (16:Int32) h11 (fun h15 =>
f_X1_lastWrite_l20 E v0 Q X (fun l4 h => Q l4 h) (fun h => Q (-1:Int32) h) 1000000 v2 (x14 - (1:Int32)) h15) X) X
def f_X1_printName_l17 (E : Nat → Nat) (v0 : Nat) (Q : hH → Prop) (K53 : hH → Nat → Nat → Prop) : Nat → Int32 → Int32 → hH → Nat → Nat → Prop
  | 0, _, _, _, _, _ => False
  | n + 1, l1, l2, h, b, w => cnd (l2 < (0:Int32)) (K53 h b w) (cnd (((l1 >>> (l2 &&& 31)) &&& (31:Int32)) ≤ (0:Int32)) ((f_X1_printName_l17 E v0 Q K53 n) l1 (l2 + (-5:Int32)) h b w) (gR h (some v0) 0 5 fun x1 =>
∃ b3 w4 : Nat, (b3 ≤ b ∧ w4 ≤ w) ∧ (isT h x1 20 fun a7 => f_J7_append E b3 w4 a7 (i2c_ (((97:Int32) + ((l1 >>> (l2 &&& 31)) &&& (31:Int32))) - (1:Int32))) h (fun x6 h5 =>
(f_X1_printName_l17 E v0 Q K53 n) l1 (l2 + (-5:Int32)) h5 (b - b3) (w - w4)))))
def f_X1_printName (E : Nat → Nat) (B W : Nat) (v0 : Nat) (v1 : Int32) (h : hH) (Q : hH → Prop) : Prop :=
cnd (v1 = (0:Int32)) (gR h (some v0) 0 5 fun x8 =>
∃ b10 w11 : Nat, (b10 ≤ B ∧ w11 ≤ W) ∧ (isT h x8 20 fun a14 => f_J7_append E b10 w11 a14 (42:Int32) h (fun x13 h12 =>
f_X1_printName_l17 E v0 Q (fun h b w => Q h) 1000000 v1 (25:Int32) h12 (B - b10) (W - w11)))) (f_X1_printName_l17 E v0 Q (fun h b w => Q h) 1000000 v1 (25:Int32) h B W)
def f_X1_write_l44 (E : Nat → Nat) (v0 : Nat) (Q : Int32 → hH → Prop) (X : String → Nat → hH → Prop) (K78 : hH → Nat → Nat → Prop) : Nat → Option Nat → Int32 → Int32 → hH → Nat → Nat → Prop
  | 0, _, _, _, _, _, _ => False
  | n + 1, l3, l4, l5, h, b, w => cnd (l4 ≤ l5) (K78 h b w) (ldI h l3 0 l5 fun x1 =>
gR h (some v0) 0 5 fun x2 =>
∃ b4 w5 : Nat, (b4 ≤ b ∧ w5 ≤ w) ∧ (isT h x2 20 fun a8 => f_J7_append E b4 w5 a8 (32:Int32) h (fun x7 h6 =>
∃ b10 w11 : Nat, (b10 ≤ (b - b4) ∧ w11 ≤ (w - w5)) ∧ (isT h6 x7 20 fun a14 => f_J7_append_3 E b10 w11 a14 x1 h6 (fun x13 h12 =>
(f_X1_write_l44 E v0 Q X K78 n) l3 l4 (l5 + (1:Int32)) h12 ((b - b4) - b10) ((w - w5) - w11))))))
def f_X1_write (E : Nat → Nat) (B W : Nat) (v0 : Nat) (v1 : Int32) (h : hH) (Q : Int32 → hH → Prop) (X : String → Nat → hH → Prop) : Prop :=
(1 ≤ B ∧ 6 ≤ W) ∧ (isT h (some v0) 0 fun a18 => f_X1_memberAt E a18 v1 h (fun x17 h16 =>
gR h16 (some v0) 0 5 fun x19 =>
∃ b21 w22 : Nat, (b21 ≤ (B - 1) ∧ w22 ≤ (W - 6)) ∧ (isT h16 x19 20 fun a24 => f_J7_setLength E b21 w22 a24 (0:Int32) h16 (fun h23 =>
gI h23 x17 7 1 fun x25 =>
∃ b27 w28 : Nat, (b27 ≤ ((B - 1) - b21) ∧ w28 ≤ ((W - 6) - w22)) ∧ (isT h23 (some v0) 0 fun a30 => f_X1_printName E b27 w28 a30 x25 h23 (fun h29 =>
gR h29 (some v0) 0 5 fun x31 =>
∃ b33 w34 : Nat, (b33 ≤ (((B - 1) - b21) - b27) ∧ w34 ≤ (((W - 6) - w22) - w28)) ∧ (isT h29 x31 20 fun a37 => f_J7_append E b33 w34 a37 (58:Int32) h29 (fun x36 h35 =>
gR h35 x17 7 3 fun x38 =>
aLn h35 x38 0 fun x39 =>
f_X1_write_l44 E v0 Q X (fun h b w => gR h (some v0) 0 5 fun x40 =>
isT h x40 20 fun a44 => f_J7_length E a44 h (fun x43 h42 =>
Q x43 h42)) 1000000 x38 x39 (0:Int32) h35 ((((B - 1) - b21) - b27) - b33) ((((W - 6) - w22) - w28) - w34)))))))) X)
def f_X6_init (E : Nat → Nat) (v0 : Nat) (v1 : Option Nat) (v2 : Int32) (h : hH) (Q : hH → Prop) : Prop :=
pV h (some v0) 4 12 (va_rf v1) fun h1 =>
nO h1 1 [va_rf none, va_rf none, va_rf none, va_rf none, va_rf none, va_rf none, va_rf none, .int 0] fun q2 h3 =>
f_X2_init E q2 h3 (fun h4 =>
pV h4 (some v0) 4 1 (va_rf (some q2)) fun h5 =>
nO h5 16 [.int 0, va_rf none, .int 0] fun q6 h7 =>
f_J2_init E q6 h7 (fun h8 =>
pV h8 (some v0) 4 2 (va_rf (some q6)) fun h9 =>
nO h9 16 [.int 0, va_rf none, .int 0] fun q10 h11 =>
f_J2_init E q10 h11 (fun h12 =>
pV h12 (some v0) 4 3 (va_rf (some q10)) fun h13 =>
aLn h13 (some (E 0)) 0 fun x14 =>
nA h13 2 x14 2 fun q15 h16 =>
pV h16 (some v0) 4 4 (va_rf (some q15)) fun h17 =>
pV h17 (some v0) 4 8 (va_rf (some (E 2))) fun h18 =>
pV h18 (some v0) 4 9 (va_rf (some (E 20))) fun h19 =>
pV h19 (some v0) 4 0 (.int v2) fun h20 =>
Q h20)))
def f_X6_peek (E : Nat → Nat) (B W : Nat) (v0 : Nat) (h : hH) (Q : Int32 → hH → Prop) : Prop :=
gI h (some v0) 4 6 fun x1 =>
gI h (some v0) 4 0 fun x2 =>
cnd (x2 ≤ x1) (Q (-1:Int32) h) (gR h (some v0) 4 12 fun x3 =>
gR h x3 0 2 fun x4 =>
gI h (some v0) 4 6 fun x5 =>
ldI h x4 1 x5 fun x6 =>
Q (x6 &&& (255:Int32)) h)
def f_X6_advance_l170 (E : Nat → Nat) (v0 : Nat) (Q : hH → Prop) (K253 : hH → Nat → Nat → Prop) : Nat → hH → Nat → Nat → Prop
  | 0, _, _, _ => False
  | n + 1, h, b, w => ∃ b2 w3 : Nat, (b2 ≤ b ∧ w3 ≤ w) ∧ (isT h (some v0) 4 fun a6 => f_X6_peek E b2 w3 a6 h (fun x5 h4 =>
f_X1_inRange E x5.toInt64 (48:Int64) (57:Int64) h4 (fun x9 h8 =>
cnd (x9 = (0:Int32)) (K253 h8 (b - b2) (w - w3)) (gI h8 (some v0) 4 10 fun x10 =>
∃ b12 w13 : Nat, (b12 ≤ (b - b2) ∧ w13 ≤ (w - w3)) ∧ (isT h8 (some v0) 4 fun a16 => f_X6_peek E b12 w13 a16 h8 (fun x15 h14 =>
pV h14 (some v0) 4 10 (.int (iMin ((((10:Int32) * x10) + x15) - (48:Int32)) (1000000:Int32))) fun h18 =>
gI h18 (some v0) 4 6 fun x19 =>
pV h18 (some v0) 4 6 (.int (x19 + (1:Int32))) fun h20 =>
(f_X6_advance_l170 E v0 Q K253 n) h20 ((b - b2) - b12) ((w - w3) - w13)))))))
def f_X6_advance_l93 (E : Nat → Nat) (v0 : Nat) (Q : hH → Prop) (K133 : Option Nat → hH → Nat → Nat → Prop) : Nat → Option Nat → hH → Nat → Nat → Prop
  | 0, _, _, _, _ => False
  | n + 1, l2, h, b, w => ∃ b22 w23 : Nat, (b22 ≤ b ∧ w23 ≤ w) ∧ (isT h (some v0) 4 fun a26 => f_X6_peek E b22 w23 a26 h (fun x25 h24 =>
f_X1_inRange E x25.toInt64 (97:Int64) (122:Int64) h24 (fun x29 h28 =>
cnd (x29 = (0:Int32)) (K133 l2 h28 (b - b22) (w - w23)) (∃ b31 w32 : Nat, (b31 ≤ (b - b22) ∧ w32 ≤ (w - w23)) ∧ (isT h28 (some v0) 4 fun a35 => f_X6_peek E b31 w32 a35 h28 (fun x34 h33 =>
∃ b37 w38 : Nat, (b37 ≤ ((b - b22) - b31) ∧ w38 ≤ ((w - w23) - w32)) ∧ (isT h33 l2 20 fun a41 => f_J7_append E b37 w38 a41 (i2c_ x34) h33 (fun x40 h39 =>
gI h39 (some v0) 4 6 fun x42 =>
pV h39 (some v0) 4 6 (.int (x42 + (1:Int32))) fun h43 =>
(f_X6_advance_l93 E v0 Q K133 n) l2 h43 (((b - b22) - b31) - b37) (((w - w23) - w32) - w38)))))))))
def f_X6_advance_j18 (E : Nat → Nat) (v0 : Nat) (Q : hH → Prop) (K0 : hH → Nat → Nat → Prop) (h : hH) (b w : Nat) : Prop :=
gI h (some v0) 4 6 fun x44 =>
pV h (some v0) 4 6 (.int (x44 + (1:Int32))) fun h45 =>
K0 h45 b w
def f_X6_advance_l0 (E : Nat → Nat) (v0 : Nat) (Q : hH → Prop) (K31 : hH → Nat → Nat → Prop) : Nat → hH → Nat → Nat → Prop
  | 0, _, _, _ => False
  | n + 1, h, b, w => ∃ b47 w48 : Nat, (b47 ≤ b ∧ w48 ≤ w) ∧ (isT h (some v0) 4 fun a51 => f_X6_peek E b47 w48 a51 h (fun x50 h49 =>
cnd (x50 = (32:Int32)) (f_X6_advance_j18 E v0 Q (f_X6_advance_l0 E v0 Q K31 n) h49 (b - b47) (w - w48)) (∃ b53 w54 : Nat, (b53 ≤ (b - b47) ∧ w54 ≤ (w - w48)) ∧ (isT h49 (some v0) 4 fun a57 => f_X6_peek E b53 w54 a57 h49 (fun x56 h55 =>
cnd (x56 = (10:Int32)) (f_X6_advance_j18 E v0 Q (f_X6_advance_l0 E v0 Q K31 n) h55 ((b - b47) - b53) ((w - w48) - w54)) (K31 h55 ((b - b47) - b53) ((w - w48) - w54)))))))
def f_X6_advance_j240 (E : Nat → Nat) (v0 : Nat) (Q : hH → Prop) (s0 : Option Nat) (s1 : Option Nat) (h : hH) (b w : Nat) : Prop :=
pV h s0 4 8 (va_rf s1) fun h58 =>
gI h58 (some v0) 4 6 fun x59 =>
pV h58 (some v0) 4 6 (.int (x59 + (1:Int32))) fun h60 =>
Q h60
def f_X6_advance (E : Nat → Nat) (B W : Nat) (v0 : Nat) (h : hH) (Q : hH → Prop) : Prop :=
f_X6_advance_l0 E v0 Q (fun h b w => gI h (some v0) 4 6 fun x61 =>
pV h (some v0) 4 7 (.int x61) fun h62 =>
pV h62 (some v0) 4 9 (va_rf (some (E 20))) fun h63 =>
∃ b65 w66 : Nat, (b65 ≤ b ∧ w66 ≤ w) ∧ (isT h63 (some v0) 4 fun a69 => f_X6_peek E b65 w66 a69 h63 (fun x68 h67 =>
cnd ((0:Int32) ≤ x68) (f_X1_inRange E x68.toInt64 (97:Int64) (122:Int64) h67 (fun x72 h71 =>
cnd (x72 = (0:Int32)) (f_X1_inRange E x68.toInt64 (48:Int64) (57:Int64) h71 (fun x75 h74 =>
cnd (x75 = (0:Int32)) (cnd (x68 = (59:Int32)) (f_X6_advance_j240 E v0 Q (some v0) (some (E 5)) h74 (b - b65) (w - w66)) (f_X6_advance_j240 E v0 Q (some v0) (some (E 6)) h74 (b - b65) (w - w66))) (pV h74 (some v0) 4 8 (va_rf (some (E 4))) fun h76 =>
pV h76 (some v0) 4 10 (.int (0:Int32)) fun h77 =>
f_X6_advance_l170 E v0 Q (fun h b w => Q h) 1000000 h77 (b - b65) (w - w66)))) (pV h71 (some v0) 4 8 (va_rf (some (E 3))) fun h78 =>
(1 ≤ (b - b65) ∧ 4 ≤ (w - w66)) ∧ (nO h78 20 [va_rf none, .int 0, .int 0, .int 0] fun q80 h81 =>
(1 ≤ ((b - b65) - 1) ∧ 16 ≤ ((w - w66) - 4)) ∧ (f_J7_init E q80 h81 (fun h83 =>
f_X6_advance_l93 E v0 Q (fun l2 h b w => ∃ b85 w86 : Nat, (b85 ≤ b ∧ w86 ≤ w) ∧ (isT h l2 20 fun a89 => f_J7_toString E b85 w86 a89 h (fun x88 h87 =>
pV h87 (some v0) 4 9 (va_rf x88) fun h90 =>
Q h90))) 1000000 (some q80) h83 (((b - b65) - 1) - 1) (((w - w66) - 4) - 16))))))) (pV h67 (some v0) 4 8 (va_rf (some (E 2))) fun h91 =>
Q h91)))) 1000000 h B W
def f_X6_require (E : Nat → Nat) (B W : Nat) (v0 : Nat) (v1 : Int32) (v2 : Int32) (h : hH) (Q : hH → Prop) (X : String → Nat → hH → Prop) : Prop :=
cnd (v1 = (0:Int32)) ((1 ≤ B ∧ 7 ≤ W) ∧ (nO h 29 [va_rf none, va_rf none, va_rf none, va_rf none, va_rf none, .int 0, .int 0] fun q2 h3 =>
f_X7_init E q2 v2 h3 (fun h5 =>
thO h5 (some q2) 29 fun a6 => X "LockstepRoom$LoadError" a6 h5))) (Q h)
def f_X6_integer_j16 (E : Nat → Nat) (v0 : Nat) (Q : Int32 → hH → Prop) (X : String → Nat → hH → Prop) (s0 : Option Nat) (s1 : Int32) (l1 : Int32) (l2 : Int32) (h : hH) (b w : Nat) : Prop :=
∃ b2 w3 : Nat, (b2 ≤ b ∧ w3 ≤ w) ∧ (isT h s0 4 fun a5 => f_X6_require E b2 w3 a5 s1 (-11:Int32) h (fun h4 =>
gI h4 (some v0) 4 10 fun x6 =>
f_X1_inRange E x6.toInt64 l1.toInt64 l2.toInt64 h4 (fun x9 h8 =>
∃ b11 w12 : Nat, (b11 ≤ (b - b2) ∧ w12 ≤ (w - w3)) ∧ (isT h8 (some v0) 4 fun a14 => f_X6_require E b11 w12 a14 x9 (-12:Int32) h8 (fun h13 =>
gI h13 (some v0) 4 10 fun x15 =>
∃ b17 w18 : Nat, (b17 ≤ ((b - b2) - b11) ∧ w18 ≤ ((w - w3) - w12)) ∧ (isT h13 (some v0) 4 fun a20 => f_X6_advance E b17 w18 a20 h13 (fun h19 =>
Q x15 h19))) X))) X)
def f_X6_integer (E : Nat → Nat) (B W : Nat) (v0 : Nat) (v1 : Int32) (v2 : Int32) (h : hH) (Q : Int32 → hH → Prop) (X : String → Nat → hH → Prop) : Prop :=
gR h (some v0) 4 8 fun x21 =>
cnd (x21 = (some (E 4))) (f_X6_integer_j16 E v0 Q X (some v0) (1:Int32) v1 v2 h B W) (f_X6_integer_j16 E v0 Q X (some v0) (0:Int32) v1 v2 h B W)
def f_X6_parseSetting_j65 (E : Nat → Nat) (v0 : Nat) (Q : hH → Prop) (X : String → Nat → hH → Prop) (s0 : Option Nat) (s1 : Int32) (l1 : Int32) (h : hH) (b w : Nat) : Prop :=
∃ b2 w3 : Nat, (b2 ≤ b ∧ w3 ≤ w) ∧ (isT h s0 4 fun a5 => f_X6_require E b2 w3 a5 s1 (-14:Int32) h (fun h4 =>
gR h4 (some v0) 4 4 fun x6 =>
stI h4 x6 2 l1 (1:Int32) fun h7 =>
∃ b9 w10 : Nat, (b9 ≤ (b - b2) ∧ w10 ≤ (w - w3)) ∧ (isT h7 (some v0) 4 fun a12 => f_X6_advance E b9 w10 a12 h7 (fun h11 =>
gR h11 (some v0) 4 1 fun x13 =>
gR h11 x13 1 2 fun x14 =>
ldI h11 (some (E 1)) 0 l1 fun x15 =>
∃ b17 w18 : Nat, (b17 ≤ ((b - b2) - b9) ∧ w18 ≤ ((w - w3) - w10)) ∧ (isT h11 (some v0) 4 fun a21 => f_X6_integer E b17 w18 a21 (1:Int32) x15 h11 (fun x20 h19 =>
stI h19 x14 0 l1 x20 fun h22 =>
Q h22) X)))) X)
def f_X6_parseSetting_j45 (E : Nat → Nat) (v0 : Nat) (Q : hH → Prop) (X : String → Nat → hH → Prop) (s0 : Option Nat) (s1 : Int32) (l1 : Int32) (h : hH) (b w : Nat) : Prop :=
∃ b24 w25 : Nat, (b24 ≤ b ∧ w25 ≤ w) ∧ (isT h s0 4 fun a27 => f_X6_require E b24 w25 a27 s1 (-11:Int32) h (fun h26 =>
gR h26 (some v0) 4 4 fun x28 =>
ldI h26 x28 2 l1 fun x29 =>
cnd (x29 = (0:Int32)) (f_X6_parseSetting_j65 E v0 Q X (some v0) (1:Int32) l1 h26 (b - b24) (w - w25)) (f_X6_parseSetting_j65 E v0 Q X (some v0) (0:Int32) l1 h26 (b - b24) (w - w25))) X)
def f_X6_parseSetting_j33 (E : Nat → Nat) (v0 : Nat) (Q : hH → Prop) (X : String → Nat → hH → Prop) (s0 : Int32) (h : hH) (b w : Nat) : Prop :=
cnd (s0 = (-1:Int32)) (f_X6_parseSetting_j45 E v0 Q X (some v0) (0:Int32) s0 h b w) (f_X6_parseSetting_j45 E v0 Q X (some v0) (1:Int32) s0 h b w)
def f_X6_parseSetting (E : Nat → Nat) (B W : Nat) (v0 : Nat) (h : hH) (Q : hH → Prop) (X : String → Nat → hH → Prop) : Prop :=
gR h (some v0) 4 9 fun x30 =>
isT h x30 21 fun a34 => f_J8_equals E a34 (some (E 33)) h (fun x33 h32 =>
cnd (x33 = (0:Int32)) (gR h32 (some v0) 4 9 fun x35 =>
isT h32 x35 21 fun a39 => f_J8_equals E a39 (some (E 34)) h32 (fun x38 h37 =>
cnd (x38 = (0:Int32)) (f_X6_parseSetting_j33 E v0 Q X (-1:Int32) h37 B W) (f_X6_parseSetting_j33 E v0 Q X (1:Int32) h37 B W))) (f_X6_parseSetting_j33 E v0 Q X (0:Int32) h32 B W))
def f_X6_name_j74 (E : Nat → Nat) (v0 : Nat) (Q : Int32 → hH → Prop) (X : String → Nat → hH → Prop) (K37 : Int32 → Int32 → hH → Nat → Nat → Prop) (s0 : Int32) (s1 : Int32) (l2 : Int32) (h : hH) (b w : Nat) : Prop :=
K37 (s0 ||| s1) (l2 + (1:Int32)) h b w
def f_X6_name_l37 (E : Nat → Nat) (v0 : Nat) (Q : Int32 → hH → Prop) (X : String → Nat → hH → Prop) (K82 : Int32 → hH → Nat → Nat → Prop) : Nat → Int32 → Int32 → hH → Nat → Nat → Prop
  | 0, _, _, _, _, _ => False
  | n + 1, l1, l2, h, b, w => cnd ((6:Int32) ≤ l2) (K82 l1 h b w) (gR h (some v0) 4 9 fun x1 =>
isT h x1 21 fun a5 => f_J8_length E a5 h (fun x4 h3 =>
cnd (x4 ≤ l2) (f_X6_name_j74 E v0 Q X (f_X6_name_l37 E v0 Q X K82 n) (l1 <<< ((5:Int32) &&& 31)) (0:Int32) l2 h3 b w) (gR h3 (some v0) 4 9 fun x6 =>
isT h3 x6 21 fun a10 => f_J8_charAt E a10 l2 h3 (fun x9 h8 =>
f_X6_name_j74 E v0 Q X (f_X6_name_l37 E v0 Q X K82 n) (l1 <<< ((5:Int32) &&& 31)) ((x9 - (97:Int32)) + (1:Int32)) l2 h8 b w))))
def f_X6_name_j28 (E : Nat → Nat) (v0 : Nat) (Q : Int32 → hH → Prop) (X : String → Nat → hH → Prop) (s0 : Option Nat) (s1 : Int32) (h : hH) (b w : Nat) : Prop :=
∃ b12 w13 : Nat, (b12 ≤ b ∧ w13 ≤ w) ∧ (isT h s0 4 fun a15 => f_X6_require E b12 w13 a15 s1 (-11:Int32) h (fun h14 =>
f_X6_name_l37 E v0 Q X (fun l1 h b w => Q l1 h) 1000000 (0:Int32) (0:Int32) h14 (b - b12) (w - w13)) X)
def f_X6_name_j27 (E : Nat → Nat) (v0 : Nat) (Q : Int32 → hH → Prop) (X : String → Nat → hH → Prop) (s0 : Option Nat) (h : hH) (b w : Nat) : Prop :=
f_X6_name_j28 E v0 Q X s0 (0:Int32) h b w
def f_X6_name (E : Nat → Nat) (B W : Nat) (v0 : Nat) (h : hH) (Q : Int32 → hH → Prop) (X : String → Nat → hH → Prop) : Prop :=
gR h (some v0) 4 8 fun x16 =>
cnd (x16 = (some (E 3))) (gR h (some v0) 4 9 fun x17 =>
isT h x17 21 fun a21 => f_J8_length E a21 h (fun x20 h19 =>
cnd ((6:Int32) < x20) (f_X6_name_j27 E v0 Q X (some v0) h19 B W) (f_X6_name_j28 E v0 Q X (some v0) (1:Int32) h19 B W))) (f_X6_name_j27 E v0 Q X (some v0) h B W)
def f_X6_find_l2 (E : Nat → Nat) (v0 : Nat) (Q : Int32 → hH → Prop) (K31 : Int32 → hH → Nat → Nat → Prop) (K39 : hH → Nat → Nat → Prop) : Nat → Int32 → Int32 → hH → Nat → Nat → Prop
  | 0, _, _, _, _, _ => False
  | n + 1, l1, l2, h, b, w => gR h (some v0) 4 2 fun x1 =>
isT h x1 16 fun a5 => f_J2_size E a5 h (fun x4 h3 =>
cnd (x4 ≤ l2) (K39 h3 b w) (gR h3 (some v0) 4 2 fun x6 =>
isT h3 x6 16 fun a10 => f_J2_get E a10 l2 h3 (fun x9 h8 =>
ckT h8 x9 22 (isT h8 x9 22 fun a14 => f_J20_intValue E a14 h8 (fun x13 h12 =>
cnd (x13 = l1) (K31 l2 h12 b w) ((f_X6_find_l2 E v0 Q K31 K39 n) l1 (l2 + (1:Int32)) h12 b w))))))
def f_X6_find (E : Nat → Nat) (B W : Nat) (v0 : Nat) (v1 : Int32) (h : hH) (Q : Int32 → hH → Prop) : Prop :=
f_X6_find_l2 E v0 Q (fun l2 h b w => Q l2 h) (fun h b w => Q (-1:Int32) h) 1000000 v1 (0:Int32) h B W
def f_X6_member_j20 (E : Nat → Nat) (v0 : Nat) (Q : Int32 → hH → Prop) (X : String → Nat → hH → Prop) (s0 : Option Nat) (s1 : Int32) (l1 : Int32) (h : hH) (b w : Nat) : Prop :=
∃ b2 w3 : Nat, (b2 ≤ b ∧ w3 ≤ w) ∧ (isT h s0 4 fun a5 => f_X6_require E b2 w3 a5 s1 (-13:Int32) h (fun h4 =>
∃ b7 w8 : Nat, (b7 ≤ (b - b2) ∧ w8 ≤ (w - w3)) ∧ (isT h4 (some v0) 4 fun a10 => f_X6_advance E b7 w8 a10 h4 (fun h9 =>
Q l1 h9))) X)
def f_X6_member (E : Nat → Nat) (B W : Nat) (v0 : Nat) (h : hH) (Q : Int32 → hH → Prop) (X : String → Nat → hH → Prop) : Prop :=
∃ b12 w13 : Nat, (b12 ≤ B ∧ w13 ≤ W) ∧ (isT h (some v0) 4 fun a16 => f_X6_name E b12 w13 a16 h (fun x15 h14 =>
∃ b18 w19 : Nat, (b18 ≤ (B - b12) ∧ w19 ≤ (W - w13)) ∧ (isT h14 (some v0) 4 fun a22 => f_X6_find E b18 w19 a22 x15 h14 (fun x21 h20 =>
cnd (x21 = (-1:Int32)) (f_X6_member_j20 E v0 Q X (some v0) (0:Int32) x21 h20 ((B - b12) - b18) ((W - w13) - w19)) (f_X6_member_j20 E v0 Q X (some v0) (1:Int32) x21 h20 ((B - b12) - b18) ((W - w13) - w19))))) X)
def f_X6_parseFault (E : Nat → Nat) (B W : Nat) (v0 : Nat) (h : hH) (Q : hH → Prop) (X : String → Nat → hH → Prop) : Prop :=
∃ b2 w3 : Nat, (b2 ≤ B ∧ w3 ≤ W) ∧ (isT h (some v0) 4 fun a6 => f_X6_member E b2 w3 a6 h (fun x5 h4 =>
∃ b8 w9 : Nat, (b8 ≤ (B - b2) ∧ w9 ≤ (W - w3)) ∧ (isT h4 (some v0) 4 fun a12 => f_X6_integer E b8 w9 a12 (0:Int32) (39:Int32) h4 (fun x11 h10 =>
∃ b14 w15 : Nat, (b14 ≤ ((B - b2) - b8) ∧ w15 ≤ ((W - w3) - w9)) ∧ (isT h10 (some v0) 4 fun a18 => f_X6_integer E b14 w15 a18 (0:Int32) (15:Int32) h10 (fun x17 h16 =>
gR h16 (some v0) 4 1 fun x19 =>
gR h16 x19 1 6 fun x20 =>
(1 ≤ (((B - b2) - b8) - b14) ∧ 4 ≤ (((W - w3) - w9) - w15)) ∧ (nO h16 6 [.int 0, .int 0, .int 0, .int 0] fun q22 h23 =>
∃ b25 w26 : Nat, (b25 ≤ ((((B - b2) - b8) - b14) - 1) ∧ w26 ≤ ((((W - w3) - w9) - w15) - 4)) ∧ (isT h23 (some v0) 4 fun a29 => f_X6_integer E b25 w26 a29 (1:Int32) (9999:Int32) h23 (fun x28 h27 =>
f_X9_init E q22 x5 x11 x17 x28 h27 (fun h31 =>
(1 ≤ (((((B - b2) - b8) - b14) - 1) - b25) ∧ 64 ≤ (((((W - w3) - w9) - w15) - 4) - w26)) ∧ (isT h31 x20 16 fun a35 => f_J2_add E a35 (some q22) h31 (fun x34 h33 =>
Q h33)))) X))) X)) X)) X)
def f_X6_parseCommand_j277 (E : Nat → Nat) (v0 : Nat) (Q : hH → Prop) (X : String → Nat → hH → Prop) (s0 : Option Nat) (s1 : Int32) (s2 : Int32) (s3 : Int32) (s4 : Option Nat) (s5 : Int32) (s6 : Int32) (h : hH) (b w : Nat) : Prop :=
∃ b2 w3 : Nat, (b2 ≤ b ∧ w3 ≤ w) ∧ (isT h s4 4 fun a6 => f_X6_integer E b2 w3 a6 s5 s6 h (fun x5 h4 =>
(1 ≤ (b - b2) ∧ 5 ≤ (w - w3)) ∧ (isT h4 s0 1 fun a10 => f_X2_give E a10 s1 s2 s3 x5 h4 (fun x9 h8 =>
Q h8))) X)
def f_X6_parseCommand_j269 (E : Nat → Nat) (v0 : Nat) (Q : hH → Prop) (X : String → Nat → hH → Prop) (s0 : Option Nat) (s1 : Int32) (s2 : Int32) (s3 : Int32) (s4 : Option Nat) (s5 : Int32) (h : hH) (b w : Nat) : Prop :=
f_X6_parseCommand_j277 E v0 Q X s0 s1 s2 s3 s4 s5 (9999:Int32) h b w
def f_X6_parseCommand_j238 (E : Nat → Nat) (v0 : Nat) (Q : hH → Prop) (X : String → Nat → hH → Prop) (s0 : Int32) (l1 : Int32) (h : hH) (b w : Nat) : Prop :=
∃ b12 w13 : Nat, (b12 ≤ b ∧ w13 ≤ w) ∧ (isT h (some v0) 4 fun a15 => f_X6_advance E b12 w13 a15 h (fun h14 =>
∃ b17 w18 : Nat, (b17 ≤ (b - b12) ∧ w18 ≤ (w - w13)) ∧ (isT h14 (some v0) 4 fun a21 => f_X6_integer E b17 w18 a21 (0:Int32) (15:Int32) h14 (fun x20 h19 =>
gR h19 (some v0) 4 1 fun x22 =>
cnd (s0 = (0:Int32)) (f_X6_parseCommand_j269 E v0 Q X x22 l1 s0 x20 (some v0) (0:Int32) h19 ((b - b12) - b17) ((w - w13) - w18)) (cnd (s0 = (1:Int32)) (f_X6_parseCommand_j269 E v0 Q X x22 l1 s0 x20 (some v0) (0:Int32) h19 ((b - b12) - b17) ((w - w13) - w18)) (f_X6_parseCommand_j277 E v0 Q X x22 l1 s0 x20 (some v0) (0:Int32) (15:Int32) h19 ((b - b12) - b17) ((w - w13) - w18)))) X)))
def f_X6_parseCommand_j163 (E : Nat → Nat) (v0 : Nat) (Q : hH → Prop) (X : String → Nat → hH → Prop) (l1 : Int32) (l4 : Int32) (h : hH) (b w : Nat) : Prop :=
cnd (l4 = (0:Int32)) (f_X6_parseCommand_j238 E v0 Q X (0:Int32) l1 h b w) <| cnd (l4 = (1:Int32)) (f_X6_parseCommand_j238 E v0 Q X (1:Int32) l1 h b w) <| cnd (l4 = (2:Int32)) (f_X6_parseCommand_j238 E v0 Q X (2:Int32) l1 h b w) <| cnd (l4 = (3:Int32)) (f_X6_parseCommand_j238 E v0 Q X (3:Int32) l1 h b w) <| cnd (l4 = (4:Int32)) (f_X6_parseCommand_j238 E v0 Q X (4:Int32) l1 h b w) <| cnd (l4 = (5:Int32)) (f_X6_parseCommand_j238 E v0 Q X (5:Int32) l1 h b w) <| (1 ≤ b ∧ 7 ≤ w) ∧ (nO h 29 [va_rf none, va_rf none, va_rf none, va_rf none, va_rf none, .int 0, .int 0] fun q24 h25 =>
f_X7_init E q24 (-11:Int32) h25 (fun h27 =>
thO h27 (some q24) 29 fun a28 => X "LockstepRoom$LoadError" a28 h27))
def f_X6_parseCommand (E : Nat → Nat) (B W : Nat) (v0 : Nat) (h : hH) (Q : hH → Prop) (X : String → Nat → hH → Prop) : Prop :=
∃ b30 w31 : Nat, (b30 ≤ B ∧ w31 ≤ W) ∧ (isT h (some v0) 4 fun a34 => f_X6_member E b30 w31 a34 h (fun x33 h32 =>
gR h32 (some v0) 4 9 fun x35 =>
isT h32 x35 21 fun a39 => f_J8_hashCode E a39 h32 (fun x38 h37 =>
cnd (x38 = (96417:Int32)) (isT h37 x35 21 fun a43 => f_J8_equals E a43 (some (E 28)) h37 (fun x42 h41 =>
cnd (x42 = (0:Int32)) (f_X6_parseCommand_j163 E v0 Q X x33 (-1:Int32) h41 (B - b30) (W - w31)) (f_X6_parseCommand_j163 E v0 Q X x33 (1:Int32) h41 (B - b30) (W - w31)))) <| cnd (x38 = (108484:Int32)) (isT h37 x35 21 fun a47 => f_J8_equals E a47 (some (E 32)) h37 (fun x46 h45 =>
cnd (x46 = (0:Int32)) (f_X6_parseCommand_j163 E v0 Q X x33 (-1:Int32) h45 (B - b30) (W - w31)) (f_X6_parseCommand_j163 E v0 Q X x33 (5:Int32) h45 (B - b30) (W - w31)))) <| cnd (x38 = (111375:Int32)) (isT h37 x35 21 fun a51 => f_J8_equals E a51 (some (E 27)) h37 (fun x50 h49 =>
cnd (x50 = (0:Int32)) (f_X6_parseCommand_j163 E v0 Q X x33 (-1:Int32) h49 (B - b30) (W - w31)) (f_X6_parseCommand_j163 E v0 Q X x33 (0:Int32) h49 (B - b30) (W - w31)))) <| cnd (x38 = (114251:Int32)) (isT h37 x35 21 fun a55 => f_J8_equals E a55 (some (E 30)) h37 (fun x54 h53 =>
cnd (x54 = (0:Int32)) (f_X6_parseCommand_j163 E v0 Q X x33 (-1:Int32) h53 (B - b30) (W - w31)) (f_X6_parseCommand_j163 E v0 Q X x33 (3:Int32) h53 (B - b30) (W - w31)))) <| cnd (x38 = (3059573:Int32)) (isT h37 x35 21 fun a59 => f_J8_equals E a59 (some (E 29)) h37 (fun x58 h57 =>
cnd (x58 = (0:Int32)) (f_X6_parseCommand_j163 E v0 Q X x33 (-1:Int32) h57 (B - b30) (W - w31)) (f_X6_parseCommand_j163 E v0 Q X x33 (2:Int32) h57 (B - b30) (W - w31)))) <| cnd (x38 = (3543443:Int32)) (isT h37 x35 21 fun a63 => f_J8_equals E a63 (some (E 31)) h37 (fun x62 h61 =>
cnd (x62 = (0:Int32)) (f_X6_parseCommand_j163 E v0 Q X x33 (-1:Int32) h61 (B - b30) (W - w31)) (f_X6_parseCommand_j163 E v0 Q X x33 (4:Int32) h61 (B - b30) (W - w31)))) <| f_X6_parseCommand_j163 E v0 Q X x33 (-1:Int32) h37 (B - b30) (W - w31))) X)
def f_X6_parseStart_j59 (E : Nat → Nat) (v0 : Nat) (Q : hH → Prop) (X : String → Nat → hH → Prop) (K19 : Int32 → hH → Nat → Nat → Prop) (s0 : Option Nat) (s1 : Int32) (l1 : Int32) (h : hH) (b w : Nat) : Prop :=
∃ b2 w3 : Nat, (b2 ≤ b ∧ w3 ≤ w) ∧ (isT h s0 4 fun a5 => f_X6_require E b2 w3 a5 s1 (-15:Int32) h (fun h4 =>
gR h4 (some v0) 4 1 fun x6 =>
gR h4 x6 1 1 fun x7 =>
gI h4 (some v0) 4 10 fun x8 =>
stI h4 x7 0 l1 x8 fun h9 =>
∃ b11 w12 : Nat, (b11 ≤ (b - b2) ∧ w12 ≤ (w - w3)) ∧ (isT h9 (some v0) 4 fun a14 => f_X6_advance E b11 w12 a14 h9 (fun h13 =>
K19 (l1 + (1:Int32)) h13 ((b - b2) - b11) ((w - w3) - w12)))) X)
def f_X6_parseStart_l19 (E : Nat → Nat) (v0 : Nat) (Q : hH → Prop) (X : String → Nat → hH → Prop) (K87 : hH → Nat → Nat → Prop) : Nat → Int32 → hH → Nat → Nat → Prop
  | 0, _, _, _, _ => False
  | n + 1, l1, h, b, w => gR h (some v0) 4 8 fun x15 =>
cnd (x15 = (some (E 4))) (gI h (some v0) 4 10 fun x16 =>
f_X1_inRange E x16.toInt64 (0:Int64) (9999:Int64) h (fun x19 h18 =>
∃ b21 w22 : Nat, (b21 ≤ b ∧ w22 ≤ w) ∧ (isT h18 (some v0) 4 fun a24 => f_X6_require E b21 w22 a24 x19 (-12:Int32) h18 (fun h23 =>
cnd ((16:Int32) ≤ l1) (f_X6_parseStart_j59 E v0 Q X (f_X6_parseStart_l19 E v0 Q X K87 n) (some v0) (0:Int32) l1 h23 (b - b21) (w - w22)) (f_X6_parseStart_j59 E v0 Q X (f_X6_parseStart_l19 E v0 Q X K87 n) (some v0) (1:Int32) l1 h23 (b - b21) (w - w22))) X))) (K87 h b w)
def f_X6_parseStart (E : Nat → Nat) (B W : Nat) (v0 : Nat) (h : hH) (Q : hH → Prop) (X : String → Nat → hH → Prop) : Prop :=
gR h (some v0) 4 1 fun x25 =>
gR h x25 1 1 fun x26 =>
∃ b28 w29 : Nat, (b28 ≤ B ∧ w29 ≤ W) ∧ (isT h (some v0) 4 fun a32 => f_X6_integer E b28 w29 a32 (0:Int32) (9999:Int32) h (fun x31 h30 =>
stI h30 x26 0 (0:Int32) x31 fun h33 =>
f_X6_parseStart_l19 E v0 Q X (fun h b w => Q h) 1000000 (1:Int32) h33 (B - b28) (W - w29)) X)
def f_X6_parseStatement_j201 (E : Nat → Nat) (v0 : Nat) (Q : hH → Prop) (X : String → Nat → hH → Prop) (s0 : Option Nat) (s1 : Int32) (h : hH) (b w : Nat) : Prop :=
∃ b2 w3 : Nat, (b2 ≤ b ∧ w3 ≤ w) ∧ (isT h s0 4 fun a5 => f_X6_require E b2 w3 a5 s1 (-14:Int32) h (fun h4 =>
pV h4 (some v0) 4 5 (.int (1:Int32)) fun h6 =>
∃ b8 w9 : Nat, (b8 ≤ (b - b2) ∧ w9 ≤ (w - w3)) ∧ (isT h6 (some v0) 4 fun a11 => f_X6_advance E b8 w9 a11 h6 (fun h10 =>
∃ b13 w14 : Nat, (b13 ≤ ((b - b2) - b8) ∧ w14 ≤ ((w - w3) - w9)) ∧ (isT h10 (some v0) 4 fun a16 => f_X6_parseStart E b13 w14 a16 h10 (fun h15 =>
Q h15) X)))) X)
def f_X6_parseStatement_j269 (E : Nat → Nat) (v0 : Nat) (Q : hH → Prop) (X : String → Nat → hH → Prop) (s0 : Option Nat) (s1 : Int32) (l3 : Int32) (h : hH) (b w : Nat) : Prop :=
∃ b18 w19 : Nat, (b18 ≤ b ∧ w19 ≤ w) ∧ (isT h s0 4 fun a21 => f_X6_require E b18 w19 a21 s1 (-14:Int32) h (fun h20 =>
∃ b23 w24 : Nat, (b23 ≤ (b - b18) ∧ w24 ≤ (w - w19)) ∧ (isT h20 (some v0) 4 fun a26 => f_X6_advance E b23 w24 a26 h20 (fun h25 =>
gR h25 (some v0) 4 3 fun x27 =>
∃ b29 w30 : Nat, (b29 ≤ ((b - b18) - b23) ∧ w30 ≤ ((w - w19) - w24)) ∧ (isT h25 (some v0) 4 fun a33 => f_X6_integer E b29 w30 a33 (1:Int32) (4:Int32) h25 (fun x32 h31 =>
(1 ≤ (((b - b18) - b23) - b29) ∧ 1 ≤ (((w - w19) - w24) - w30)) ∧ (f_J20_valueOf E x32 h31 (fun x36 h35 =>
(1 ≤ ((((b - b18) - b23) - b29) - 1) ∧ 64 ≤ ((((w - w19) - w24) - w30) - 1)) ∧ (isT h35 x27 16 fun a40 => f_J2_add E a40 x36 h35 (fun x39 h38 =>
gR h38 (some v0) 4 2 fun x41 =>
(1 ≤ (((((b - b18) - b23) - b29) - 1) - 1) ∧ 1 ≤ (((((w - w19) - w24) - w30) - 1) - 64)) ∧ (f_J20_valueOf E l3 h38 (fun x44 h43 =>
(1 ≤ ((((((b - b18) - b23) - b29) - 1) - 1) - 1) ∧ 64 ≤ ((((((w - w19) - w24) - w30) - 1) - 64) - 1)) ∧ (isT h43 x41 16 fun a48 => f_J2_add E a48 x44 h43 (fun x47 h46 =>
Q h46))))))))) X)))) X)
def f_X6_parseStatement_j240 (E : Nat → Nat) (v0 : Nat) (Q : hH → Prop) (X : String → Nat → hH → Prop) (s0 : Option Nat) (s1 : Int32) (h : hH) (b w : Nat) : Prop :=
∃ b50 w51 : Nat, (b50 ≤ b ∧ w51 ≤ w) ∧ (isT h s0 4 fun a53 => f_X6_require E b50 w51 a53 s1 (-15:Int32) h (fun h52 =>
∃ b55 w56 : Nat, (b55 ≤ (b - b50) ∧ w56 ≤ (w - w51)) ∧ (isT h52 (some v0) 4 fun a58 => f_X6_advance E b55 w56 a58 h52 (fun h57 =>
∃ b60 w61 : Nat, (b60 ≤ ((b - b50) - b55) ∧ w61 ≤ ((w - w51) - w56)) ∧ (isT h57 (some v0) 4 fun a64 => f_X6_name E b60 w61 a64 h57 (fun x63 h62 =>
∃ b66 w67 : Nat, (b66 ≤ (((b - b50) - b55) - b60) ∧ w67 ≤ (((w - w51) - w56) - w61)) ∧ (isT h62 (some v0) 4 fun a70 => f_X6_find E b66 w67 a70 x63 h62 (fun x69 h68 =>
cnd (x69 = (-1:Int32)) (f_X6_parseStatement_j269 E v0 Q X (some v0) (1:Int32) x63 h68 ((((b - b50) - b55) - b60) - b66) ((((w - w51) - w56) - w61) - w67)) (f_X6_parseStatement_j269 E v0 Q X (some v0) (0:Int32) x63 h68 ((((b - b50) - b55) - b60) - b66) ((((w - w51) - w56) - w61) - w67))))) X)))) X)
def f_X6_parseStatement_j331 (E : Nat → Nat) (v0 : Nat) (Q : hH → Prop) (X : String → Nat → hH → Prop) (s0 : Option Nat) (s1 : Int32) (h : hH) (b w : Nat) : Prop :=
∃ b72 w73 : Nat, (b72 ≤ b ∧ w73 ≤ w) ∧ (isT h s0 4 fun a75 => f_X6_require E b72 w73 a75 s1 (-15:Int32) h (fun h74 =>
∃ b77 w78 : Nat, (b77 ≤ (b - b72) ∧ w78 ≤ (w - w73)) ∧ (isT h74 (some v0) 4 fun a80 => f_X6_advance E b77 w78 a80 h74 (fun h79 =>
∃ b82 w83 : Nat, (b82 ≤ ((b - b72) - b77) ∧ w83 ≤ ((w - w73) - w78)) ∧ (isT h79 (some v0) 4 fun a85 => f_X6_parseCommand E b82 w83 a85 h79 (fun h84 =>
Q h84) X)))) X)
def f_X6_parseStatement_j368 (E : Nat → Nat) (v0 : Nat) (Q : hH → Prop) (X : String → Nat → hH → Prop) (s0 : Option Nat) (s1 : Int32) (h : hH) (b w : Nat) : Prop :=
∃ b87 w88 : Nat, (b87 ≤ b ∧ w88 ≤ w) ∧ (isT h s0 4 fun a90 => f_X6_require E b87 w88 a90 s1 (-15:Int32) h (fun h89 =>
gR h89 (some v0) 4 1 fun x91 =>
(2 ≤ (b - b87) ∧ 72 ≤ (w - w88)) ∧ (isT h89 x91 1 fun a95 => f_X2_seal E a95 h89 (fun x94 h93 =>
∃ b97 w98 : Nat, (b97 ≤ ((b - b87) - 2) ∧ w98 ≤ ((w - w88) - 72)) ∧ (isT h93 (some v0) 4 fun a100 => f_X6_advance E b97 w98 a100 h93 (fun h99 =>
Q h99))))) X)
def f_X6_parseStatement_j410 (E : Nat → Nat) (v0 : Nat) (Q : hH → Prop) (X : String → Nat → hH → Prop) (s0 : Option Nat) (s1 : Int32) (h : hH) (b w : Nat) : Prop :=
∃ b102 w103 : Nat, (b102 ≤ b ∧ w103 ≤ w) ∧ (isT h s0 4 fun a105 => f_X6_require E b102 w103 a105 s1 (-15:Int32) h (fun h104 =>
∃ b107 w108 : Nat, (b107 ≤ (b - b102) ∧ w108 ≤ (w - w103)) ∧ (isT h104 (some v0) 4 fun a110 => f_X6_advance E b107 w108 a110 h104 (fun h109 =>
∃ b112 w113 : Nat, (b112 ≤ ((b - b102) - b107) ∧ w113 ≤ ((w - w103) - w108)) ∧ (isT h109 (some v0) 4 fun a115 => f_X6_parseFault E b112 w113 a115 h109 (fun h114 =>
Q h114) X)))) X)
def f_X6_parseStatement_j149 (E : Nat → Nat) (v0 : Nat) (Q : hH → Prop) (X : String → Nat → hH → Prop) (l2 : Int32) (h : hH) (b w : Nat) : Prop :=
cnd (l2 = (0:Int32)) (gI h (some v0) 4 5 fun x116 =>
cnd (x116 = (0:Int32)) (f_X6_parseStatement_j201 E v0 Q X (some v0) (1:Int32) h b w) (f_X6_parseStatement_j201 E v0 Q X (some v0) (0:Int32) h b w)) <| cnd (l2 = (1:Int32)) (gR h (some v0) 4 2 fun x117 =>
isT h x117 16 fun a121 => f_J2_size E a121 h (fun x120 h119 =>
cnd ((6:Int32) ≤ x120) (f_X6_parseStatement_j240 E v0 Q X (some v0) (0:Int32) h119 b w) (f_X6_parseStatement_j240 E v0 Q X (some v0) (1:Int32) h119 b w))) <| cnd (l2 = (2:Int32)) (gR h (some v0) 4 1 fun x122 =>
gR h x122 1 5 fun x123 =>
isT h x123 17 fun a127 => f_J4_size E a127 h (fun x126 h125 =>
cnd ((8:Int32) ≤ x126) (f_X6_parseStatement_j331 E v0 Q X (some v0) (0:Int32) h125 b w) (f_X6_parseStatement_j331 E v0 Q X (some v0) (1:Int32) h125 b w))) <| cnd (l2 = (3:Int32)) (gR h (some v0) 4 1 fun x128 =>
gR h x128 1 4 fun x129 =>
isT h x129 16 fun a133 => f_J2_size E a133 h (fun x132 h131 =>
cnd ((40:Int32) ≤ x132) (f_X6_parseStatement_j368 E v0 Q X (some v0) (0:Int32) h131 b w) (f_X6_parseStatement_j368 E v0 Q X (some v0) (1:Int32) h131 b w))) <| cnd (l2 = (4:Int32)) (gR h (some v0) 4 1 fun x134 =>
gR h x134 1 6 fun x135 =>
isT h x135 16 fun a139 => f_J2_size E a139 h (fun x138 h137 =>
cnd ((10:Int32) ≤ x138) (f_X6_parseStatement_j410 E v0 Q X (some v0) (0:Int32) h137 b w) (f_X6_parseStatement_j410 E v0 Q X (some v0) (1:Int32) h137 b w))) <| cnd (l2 = (5:Int32)) (∃ b141 w142 : Nat, (b141 ≤ b ∧ w142 ≤ w) ∧ (isT h (some v0) 4 fun a144 => f_X6_advance E b141 w142 a144 h (fun h143 =>
∃ b146 w147 : Nat, (b146 ≤ (b - b141) ∧ w147 ≤ (w - w142)) ∧ (isT h143 (some v0) 4 fun a149 => f_X6_parseSetting E b146 w147 a149 h143 (fun h148 =>
Q h148) X)))) <| (1 ≤ b ∧ 7 ≤ w) ∧ (nO h 29 [va_rf none, va_rf none, va_rf none, va_rf none, va_rf none, .int 0, .int 0] fun q151 h152 =>
f_X7_init E q151 (-11:Int32) h152 (fun h154 =>
thO h154 (some q151) 29 fun a155 => X "LockstepRoom$LoadError" a155 h154))
def f_X6_parseStatement (E : Nat → Nat) (B W : Nat) (v0 : Nat) (h : hH) (Q : hH → Prop) (X : String → Nat → hH → Prop) : Prop :=
gR h (some v0) 4 9 fun x156 =>
isT h x156 21 fun a160 => f_J8_hashCode E a160 h (fun x159 h158 =>
cnd (x159 = (-1077769574:Int32)) (isT h158 x156 21 fun a164 => f_J8_equals E a164 (some (E 22)) h158 (fun x163 h162 =>
cnd (x163 = (0:Int32)) (f_X6_parseStatement_j149 E v0 Q X (-1:Int32) h162 B W) (f_X6_parseStatement_j149 E v0 Q X (1:Int32) h162 B W))) <| cnd (x159 = (3211:Int32)) (isT h158 x156 21 fun a168 => f_J8_equals E a168 (some (E 23)) h158 (fun x167 h166 =>
cnd (x167 = (0:Int32)) (f_X6_parseStatement_j149 E v0 Q X (-1:Int32) h166 B W) (f_X6_parseStatement_j149 E v0 Q X (2:Int32) h166 B W))) <| cnd (x159 = (113762:Int32)) (isT h158 x156 21 fun a172 => f_J8_equals E a172 (some (E 26)) h158 (fun x171 h170 =>
cnd (x171 = (0:Int32)) (f_X6_parseStatement_j149 E v0 Q X (-1:Int32) h170 B W) (f_X6_parseStatement_j149 E v0 Q X (5:Int32) h170 B W))) <| cnd (x159 = (3526141:Int32)) (isT h158 x156 21 fun a176 => f_J8_equals E a176 (some (E 24)) h158 (fun x175 h174 =>
cnd (x175 = (0:Int32)) (f_X6_parseStatement_j149 E v0 Q X (-1:Int32) h174 B W) (f_X6_parseStatement_j149 E v0 Q X (3:Int32) h174 B W))) <| cnd (x159 = (97204770:Int32)) (isT h158 x156 21 fun a180 => f_J8_equals E a180 (some (E 25)) h158 (fun x179 h178 =>
cnd (x179 = (0:Int32)) (f_X6_parseStatement_j149 E v0 Q X (-1:Int32) h178 B W) (f_X6_parseStatement_j149 E v0 Q X (4:Int32) h178 B W))) <| cnd (x159 = (109757538:Int32)) (isT h158 x156 21 fun a184 => f_J8_equals E a184 (some (E 21)) h158 (fun x183 h182 =>
cnd (x183 = (0:Int32)) (f_X6_parseStatement_j149 E v0 Q X (-1:Int32) h182 B W) (f_X6_parseStatement_j149 E v0 Q X (0:Int32) h182 B W))) <| f_X6_parseStatement_j149 E v0 Q X (-1:Int32) h158 B W)
def f_X6_parse_l58 (E : Nat → Nat) (v0 : Nat) (Q : Option Nat → hH → Prop) (X : String → Nat → hH → Prop) (K110 : hH → Nat → Nat → Prop) : Nat → Int32 → hH → Nat → Nat → Prop
  | 0, _, _, _, _ => False
  | n + 1, l1, h, b, w => gR h (some v0) 4 2 fun x1 =>
isT h x1 16 fun a5 => f_J2_size E a5 h (fun x4 h3 =>
cnd (x4 ≤ l1) (K110 h3 b w) (gR h3 (some v0) 4 1 fun x6 =>
gR h3 (some v0) 4 2 fun x7 =>
isT h3 x7 16 fun a11 => f_J2_get E a11 l1 h3 (fun x10 h9 =>
ckT h9 x10 22 (isT h9 x10 22 fun a15 => f_J20_intValue E a15 h9 (fun x14 h13 =>
gR h13 (some v0) 4 3 fun x16 =>
isT h13 x16 16 fun a20 => f_J2_get E a20 l1 h13 (fun x19 h18 =>
ckT h18 x19 22 (isT h18 x19 22 fun a24 => f_J20_intValue E a24 h18 (fun x23 h22 =>
(8 ≤ b ∧ 139 ≤ w) ∧ (isT h22 x6 1 fun a27 => f_X2_enter E a27 x14 x23 h22 (fun h26 =>
(f_X6_parse_l58 E v0 Q X K110 n) (l1 + (1:Int32)) h26 (b - 8) (w - 139)))))))))))
def f_X6_parse_j34 (E : Nat → Nat) (v0 : Nat) (Q : Option Nat → hH → Prop) (X : String → Nat → hH → Prop) (K4 : hH → Nat → Nat → Prop) (s0 : Option Nat) (s1 : Int32) (h : hH) (b w : Nat) : Prop :=
∃ b29 w30 : Nat, (b29 ≤ b ∧ w30 ≤ w) ∧ (isT h s0 4 fun a32 => f_X6_require E b29 w30 a32 s1 (-11:Int32) h (fun h31 =>
∃ b34 w35 : Nat, (b34 ≤ (b - b29) ∧ w35 ≤ (w - w30)) ∧ (isT h31 (some v0) 4 fun a37 => f_X6_advance E b34 w35 a37 h31 (fun h36 =>
gI h36 (some v0) 4 11 fun x38 =>
pV h36 (some v0) 4 11 (.int (x38 + (1:Int32))) fun h39 =>
K4 h39 ((b - b29) - b34) ((w - w30) - w35)))) X)
def f_X6_parse_l4 (E : Nat → Nat) (v0 : Nat) (Q : Option Nat → hH → Prop) (X : String → Nat → hH → Prop) (K56 : hH → Nat → Nat → Prop) : Nat → hH → Nat → Nat → Prop
  | 0, _, _, _ => False
  | n + 1, h, b, w => gR h (some v0) 4 8 fun x40 =>
cnd (x40 = (some (E 2))) (K56 h b w) (∃ b42 w43 : Nat, (b42 ≤ b ∧ w43 ≤ w) ∧ (isT h (some v0) 4 fun a45 => f_X6_parseStatement E b42 w43 a45 h (fun h44 =>
gR h44 (some v0) 4 8 fun x46 =>
cnd (x46 = (some (E 5))) (f_X6_parse_j34 E v0 Q X (f_X6_parse_l4 E v0 Q X K56 n) (some v0) (1:Int32) h44 (b - b42) (w - w43)) (f_X6_parse_j34 E v0 Q X (f_X6_parse_l4 E v0 Q X K56 n) (some v0) (0:Int32) h44 (b - b42) (w - w43))) X))
def f_X6_parse (E : Nat → Nat) (B W : Nat) (v0 : Nat) (h : hH) (Q : Option Nat → hH → Prop) (X : String → Nat → hH → Prop) : Prop :=
∃ b48 w49 : Nat, (b48 ≤ B ∧ w49 ≤ W) ∧ (isT h (some v0) 4 fun a51 => f_X6_advance E b48 w49 a51 h (fun h50 =>
f_X6_parse_l4 E v0 Q X (fun h b w => f_X6_parse_l58 E v0 Q X (fun h b w => gR h (some v0) 4 1 fun x52 =>
Q x52 h) 1000000 (0:Int32) h b w) 1000000 h50 (B - b48) (W - w49)))
def f_X1_load (E : Nat → Nat) (B W : Nat) (v0 : Nat) (v1 : Int32) (h : hH) (Q : Int32 → hH → Prop) : Prop :=
gI h (some v0) 0 3 fun x1 =>
f_X1_inRange E v1.toInt64 (0:Int64) x1.toInt64 h (fun x4 h3 =>
cnd (x4 = (0:Int32)) (Q (-2:Int32) h3) (pV h3 (some v0) 0 3 (.int (0:Int32)) fun h5 =>
pV h5 (some v0) 0 4 (.int (-1:Int32)) fun h6 =>
(1 ≤ B ∧ 13 ≤ W) ∧ (nO h6 4 [.int 0, va_rf none, va_rf none, va_rf none, va_rf none, .int 0, .int 0, .int 0, va_rf none, va_rf none, .int 0, .int 0, va_rf none] fun q8 h9 =>
(18 ≤ (B - 1) ∧ 67 ≤ (W - 13)) ∧ (f_X6_init E q8 (some v0) v1 h9 (fun h11 =>
∃ b13 w14 : Nat, (b13 ≤ ((B - 1) - 18) ∧ w14 ≤ ((W - 13) - 67)) ∧ (isT h11 (some q8) 4 fun a17 => f_X6_parse E b13 w14 a17 h11 (fun x16 h15 =>
pV h15 (some v0) 0 0 (va_rf x16) fun h23 =>
gR h23 (some v0) 0 1 fun x24 =>
isT h23 x24 19 fun a27 => f_J5_clear E a27 h23 (fun h26 =>
gI h26 (some q8) 4 11 fun x28 =>
Q x28 h26)) (fun e q18 h19 => e = "LockstepRoom$LoadError" ∧ (gI h19 (some q8) 4 7 fun x20 =>
pV h19 (some v0) 0 4 (.int x20) fun h21 =>
gI h21 (some q18) 29 6 fun x22 =>
Q x22 h21))))))))
