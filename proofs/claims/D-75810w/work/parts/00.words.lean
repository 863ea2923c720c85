/-! the words of the weakest preconditions over the abstract heap -/
/-- what a cell holds: an object's fields; an array's length and contents -/
abbrev hV : Type := List Value ⊕ (Nat × ((Nat → Int32) ⊕ (Nat → Int64) ⊕ (Nat → Option Nat)))
/-- a cell: may it be written; its tag (class number, array type number); its contents -/
abbrev hC : Type := Bool × Nat × hV
abbrev hH : Type := Nat → Option hC
def hup (h : hH) (a : Nat) (e : hC) : hH := fun b => if b = a then some e else h b
def aTy : Nat → FieldType := fun t => match t with
  | 0 => .int
  | 1 => .byte
  | 2 => .boolean
  | 3 => .long
  | 4 => .object "java/lang/Object"
  | 5 => .object "LockstepRoom$Command"
  | 6 => .object "java/util/HashMap$Node"
  | 7 => .object "LockstepRoom$Rule"
  | 8 => .object "java/lang/Integer"
  | _ => .int
/-- an int field -/
def gI (h : hH) (r : Option Nat) (t j : Nat) (K : Int32 → Prop) : Prop := ∃ (a : Nat) (fl : Bool) (fs : List Value) (v : Int32), r = some a ∧ h a = some (fl, t, .inl fs) ∧ fs[j]? = some (.int v) ∧ K v
/-- a reference field -/
def gR (h : hH) (r : Option Nat) (t j : Nat) (K : Option Nat → Prop) : Prop := ∃ (a : Nat) (fl : Bool) (fs : List Value) (v : Option Nat), r = some a ∧ h a = some (fl, t, .inl fs) ∧ fs[j]? = some (va_rf v) ∧ K v
/-- a float field -/
def gF (h : hH) (r : Option Nat) (t j : Nat) (K : UInt32 → Prop) : Prop := ∃ (a : Nat) (fl : Bool) (fs : List Value) (v : UInt32), r = some a ∧ h a = some (fl, t, .inl fs) ∧ fs[j]? = some (.float v) ∧ K v
/-- a field is written -/
def pV (h : hH) (r : Option Nat) (t j : Nat) (v : Value) (K : hH → Prop) : Prop := ∃ (a : Nat) (fs : List Value), r = some a ∧ h a = some (true, t, .inl fs) ∧ j < fs.length ∧ K (hup h a (true, t, .inl (fs.set j v)))
/-- of a small type -/
def nfit (ty : FieldType) (v : Int32) : Prop := narrow ty (.int v) = .int v ∧ fits ty (.int v) = true
def nO (h : hH) (t : Nat) (fs : List Value) (K : Nat → hH → Prop) : Prop := ∀ q : Nat, h q = none → K q (hup h q (true, t, .inl fs))
def aLn (h : hH) (r : Option Nat) (t : Nat) (K : Int32 → Prop) : Prop := ∃ (a : Nat) (fl : Bool) (n : Nat) (f : (Nat → Int32) ⊕ (Nat → Int64) ⊕ (Nat → Option Nat)), r = some a ∧ h a = some (fl, t, .inr (n, f)) ∧ K (Int32.ofNat n)
def ldI (h : hH) (r : Option Nat) (t : Nat) (i : Int32) (K : Int32 → Prop) : Prop := ∃ (a : Nat) (fl : Bool) (n : Nat) (f : Nat → Int32), r = some a ∧ h a = some (fl, t, .inr (n, .inl f)) ∧ vp_in i n ∧ K (f i.toNatClampNeg)
def ldQ (h : hH) (r : Option Nat) (t : Nat) (i : Int32) (K : Option Nat → Prop) : Prop := ∃ (a : Nat) (fl : Bool) (n : Nat) (f : Nat → Option Nat), r = some a ∧ h a = some (fl, t, .inr (n, .inr (.inr f))) ∧ vp_in i n ∧ K (f i.toNatClampNeg)
def ldL (h : hH) (r : Option Nat) (t : Nat) (i : Int32) (K : Int64 → Prop) : Prop := ∃ (a : Nat) (n : Nat) (f : Nat → Int64), r = some a ∧ h a = some (true, t, .inr (n, .inr (.inl f))) ∧ vp_in i n ∧ K (f i.toNatClampNeg)
def stI (h : hH) (r : Option Nat) (t : Nat) (i v : Int32) (K : hH → Prop) : Prop := ∃ (a n : Nat) (f : Nat → Int32), r = some a ∧ h a = some (true, t, .inr (n, .inl f)) ∧ vp_in i n ∧ K (hup h a (true, t, .inr (n, .inl (upd f i.toNatClampNeg (vp_nar (aTy t) v)))))
def stL (h : hH) (r : Option Nat) (t : Nat) (i : Int32) (v : Int64) (K : hH → Prop) : Prop := ∃ (a n : Nat) (f : Nat → Int64), r = some a ∧ h a = some (true, t, .inr (n, .inr (.inl f))) ∧ vp_in i n ∧ K (hup h a (true, t, .inr (n, .inr (.inl (vp_updL f i.toNatClampNeg v)))))
/-- an object of that tag -/
def isT (h : hH) (r : Option Nat) (t : Nat) (K : Nat → Prop) : Prop := ∃ (a : Nat) (fl : Bool) (fs : List Value), r = some a ∧ h a = some (fl, t, .inl fs) ∧ K a
/-- not null -/
def nn (r : Option Nat) (K : Nat → Prop) : Prop := ∃ a : Nat, r = some a ∧ K a
/-- the script: an int array of the start -/
def ldIo (h : hH) (r : Option Nat) (i : Int32) (K : Int32 → Prop) : Prop := ∃ (a n : Nat) (f : Nat → Int32), r = some a ∧ h a = some (false, 9, .inr (n, .inl f)) ∧ vp_in i n ∧ K (f i.toNatClampNeg)
def aLno (h : hH) (r : Option Nat) (K : Int32 → Prop) : Prop := ∃ (a n : Nat) (f : Nat → Int32), r = some a ∧ h a = some (false, 9, .inr (n, .inl f)) ∧ K (Int32.ofNat n)
/-- the cache of Integers -/
def ldQo (h : hH) (r : Option Nat) (i : Int32) (K : Option Nat → Prop) : Prop := ∃ (a n : Nat) (f : Nat → Option Nat), r = some a ∧ h a = some (false, 8, .inr (n, .inr (.inr f))) ∧ vp_in i n ∧ K (f i.toNatClampNeg)
/-- a branch -/
def cnd (c A B : Prop) : Prop := (c → A) ∧ (¬ c → B)
/-- arithmetic as the machine has it -/
abbrev iRem (a b : Int32) : Int32 := a - a / b * b
abbrev iUsh (a b : Int32) : Int32 := (a.toUInt32 >>> (b.toUInt32 &&& Int32.toUInt32 31)).toInt32
abbrev lRem (a b : Int64) : Int64 := a - a / b * b
abbrev i2c_ (a : Int32) : Int32 := (a.toUInt32 % 65536).toInt32
abbrev iMax (a b : Int32) : Int32 := if a < b then b else a
abbrev iMin (a b : Int32) : Int32 := if b < a then b else a
/-- a boolean is 0 or 1 -/
def nz (v : Int32) : Prop := narrow .boolean (.int v) = .int v
def nA (h : hH) (t : Nat) (n : Int32) (lim : Nat) (K : Nat → hH → Prop) : Prop := ∃ N : Nat, N ≤ lim ∧ n = nI N ∧ ∀ q : Nat, h q = none → K q (hup h q (true, t, .inr (N, .inl fun _ => 0)))
def nAl (h : hH) (t : Nat) (n : Int32) (lim : Nat) (K : Nat → hH → Prop) : Prop := ∃ N : Nat, N ≤ lim ∧ n = nI N ∧ ∀ q : Nat, h q = none → K q (hup h q (true, t, .inr (N, .inr (.inl fun _ => 0))))
def nAq (h : hH) (t : Nat) (n : Int32) (lim : Nat) (K : Nat → hH → Prop) : Prop := ∃ N : Nat, N ≤ lim ∧ n = nI N ∧ ∀ q : Nat, h q = none → K q (hup h q (true, t, .inr (N, .inr (.inr fun _ => none))))
/-- null, or an object of that tag -/
def ckT (h : hH) (r : Option Nat) (t : Nat) (K : Prop) : Prop := (∀ a, r = some a → ∃ (fl : Bool) (fs : List Value), h a = some (fl, t, .inl fs)) ∧ K
/-- null, or an array of that tag -/
def ckA (h : hH) (r : Option Nat) (t : Nat) (K : Prop) : Prop := (∀ a, r = some a → ∃ (f : Nat × ((Nat → Int32) ⊕ (Nat → Int64) ⊕ (Nat → Option Nat))), h a = some (true, t, .inr f)) ∧ K
/-- instanceof: an object of that tag is one, null is none -/
def ioY (h : hH) (r : Option Nat) (t : Nat) (K : Int32 → Prop) : Prop := (r = none → K 0) ∧ ∀ a, r = some a → (∃ (fl : Bool) (fs : List Value), h a = some (fl, t, .inl fs)) ∧ K 1
def ioN (h : hH) (r : Option Nat) (t : Nat) (K : Int32 → Prop) : Prop := (∀ a, r = some a → ∃ (fl : Bool) (fs : List Value), h a = some (fl, t, .inl fs)) ∧ K 0
/-- classes that the tables say castable to Object -/
def obTags : List Nat := [0, 1, 2, 3, 4, 5, 6, 7, 8, 9, 10, 11, 12, 13, 14, 15, 16, 17, 18, 19, 20, 21, 22, 23, 24, 25, 26, 27, 28]
/-- may stand in an array of the tag t -/
def inArr (h : hH) (t b : Nat) : Prop := match t with
  | 4 => (∃ (fl : Bool) (u : Nat) (fs : List Value), u ∈ obTags ∧ h b = some (fl, u, .inl fs)) ∨ ∃ f, h b = some (true, 5, .inr f)
  | 5 => ∃ (fl : Bool) (fs : List Value), h b = some (fl, 5, .inl fs)
  | 6 => ∃ (fl : Bool) (fs : List Value), h b = some (fl, 28, .inl fs)
  | _ => False
def stQ (h : hH) (r : Option Nat) (t : Nat) (i : Int32) (v : Option Nat) (K : hH → Prop) : Prop := ∃ (a n : Nat) (f : Nat → Option Nat), r = some a ∧ h a = some (true, t, .inr (n, .inr (.inr f))) ∧ vp_in i n ∧ (∀ b, v = some b → inArr h t b) ∧ K (hup h a (true, t, .inr (n, .inr (.inr (va_up f i.toNatClampNeg v)))))
/-- System.arraycopy of numbers, of references -/
def cpI (h : hH) (r0 : Option Nat) (sp : Int32) (r1 : Option Nat) (dp n : Int32) (t : Nat) (K : hH → Prop) : Prop := ∃ (a0 a n0 n1 sp' dp' n' : Nat) (f g : Nat → Int32), r0 = some a0 ∧ r1 = some a ∧ h a0 = some (true, t, .inr (n0, .inl f)) ∧ h a = some (true, t, .inr (n1, .inl g)) ∧ sp = nI sp' ∧ dp = nI dp' ∧ n = nI n' ∧ n0 < 2 ^ 31 ∧ n1 < 2 ^ 31 ∧ sp' + n' ≤ n0 ∧ dp' + n' ≤ n1 ∧ (∀ j, j < n' → fits (aTy t) (.int (f (sp' + j))) = true) ∧ K (hup h a (true, t, .inr (n1, .inl (va_cpy f g sp' dp' n'))))
def cpQ (h : hH) (r0 : Option Nat) (sp : Int32) (r1 : Option Nat) (dp n : Int32) (K : hH → Prop) : Prop := ∃ (a0 a n0 n1 sp' dp' n' : Nat) (f g : Nat → Option Nat), r0 = some a0 ∧ r1 = some a ∧ h a0 = some (true, 4, .inr (n0, .inr (.inr f))) ∧ h a = some (true, 4, .inr (n1, .inr (.inr g))) ∧ sp = nI sp' ∧ dp = nI dp' ∧ n = nI n' ∧ n0 < 2 ^ 31 ∧ n1 < 2 ^ 31 ∧ sp' + n' ≤ n0 ∧ dp' + n' ≤ n1 ∧ (∀ j, j < n' → ∀ b, f (sp' + j) = some b → inArr h 4 b) ∧ K (hup h a (true, 4, .inr (n1, .inr (.inr (va_cpy f g sp' dp' n')))))
/-- an int array's clone -/
def clI (h : hH) (r : Option Nat) (lim : Nat) (K : Nat → hH → Prop) : Prop := ∃ (a : Nat) (fl : Bool) (n : Nat) (f : Nat → Int32), r = some a ∧ h a = some (fl, 0, .inr (n, .inl f)) ∧ n ≤ lim ∧ ∀ q : Nat, h q = none → K q (hup h q (true, 0, .inr (n, .inl f)))
def gC4 (h : hH) (r : Option Nat) (K : Prop) : Prop := (∃ (a : Nat) (f : Nat × ((Nat → Int32) ⊕ (Nat → Int64) ⊕ (Nat → Option Nat))), r = some a ∧ h a = some (true, 4, .inr f)) ∧ K
def clB (h : hH) (r : Option Nat) (lim : Nat) (K : Nat → hH → Prop) : Prop := ∃ (a n : Nat) (f : Nat → Int32), r = some a ∧ h a = some (true, 1, .inr (n, .inl f)) ∧ n ≤ lim ∧ (∀ j, j < n → fits .byte (.int (f j)) = true) ∧ ∀ q : Nat, h q = none → K q (hup h q (true, 1, .inr (n, .inl f)))
abbrev ioobe : String := "java/lang/IndexOutOfBoundsException"
/-- an object of that tag, made here -/
def thO (h : hH) (r : Option Nat) (t : Nat) (K : Nat → Prop) : Prop := ∃ (a : Nat) (fs : List Value), r = some a ∧ h a = some (true, t, .inl fs) ∧ K a
/-- a new object of the class of a site, which holds what is captured -/
def nLa (h : hH) (t : Nat) (r : Option Nat) (K : Nat → hH → Prop) : Prop := ∀ q : Nat, h q = none → K q (hup h q (true, t, .inr (1, .inr (.inr fun _ => r))))
/-- an object of a site's class, which holds an object of the tag tm -/
def isLa (h : hH) (r : Option Nat) (t tm : Nat) (P : Nat → Prop) : Prop := ∃ (a mm : Nat) (fl : Bool) (fs : List Value), r = some a ∧ h a = some (true, t, .inr (1, .inr (.inr fun _ => some mm))) ∧ h mm = some (fl, tm, .inl fs) ∧ P mm
def laAt (h : hH) (b t : Nat) : Prop := ∃ g, h b = some (true, t, .inr (1, .inr (.inr g)))
def stR (h : hH) (r : Option Nat) (i : Int32) (v : Nat) (K : hH → Prop) : Prop := ∃ (a n : Nat) (f : Nat → Option Nat), r = some a ∧ h a = some (true, 7, .inr (n, .inr (.inr f))) ∧ vp_in i n ∧ K (hup h a (true, 7, .inr (n, .inr (.inr (va_up f i.toNatClampNeg (some v))))))
