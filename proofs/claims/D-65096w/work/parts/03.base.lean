/-! THE ABSTRACT MEMORY: column, object, element -> number; computations over it -/
abbrev zM : Type := Nat → Int → Int → Int
abbrev zX : Type := zM → Option (Int × zM)
def zi (x : Int) : Int := (x + 2147483648) % 4294967296 - 2147483648
def zl (x : Int) : Int := (x + 9223372036854775808) % 18446744073709551616 - 9223372036854775808
def zb (x : Int) : Int := (x + 128) % 256 - 128
def zan (x y : Int) : Int := (Int32.ofInt x &&& Int32.ofInt y).toInt
def zaN (x y : Int) : Int := (Int64.ofInt x &&& Int64.ofInt y).toInt
def zor (x y : Int) : Int := (Int32.ofInt x ||| Int32.ofInt y).toInt
def zoR (x y : Int) : Int := (Int64.ofInt x ||| Int64.ofInt y).toInt
def zxr (x y : Int) : Int := (Int32.ofInt x ^^^ Int32.ofInt y).toInt
def zxR (x y : Int) : Int := (Int64.ofInt x ^^^ Int64.ofInt y).toInt
def zup (M : zM) (f : Nat) (x i v : Int) : zM := fun f' x' i' => if f' = f ∧ x' = x ∧ i' = i then v else M f' x' i'
def zret (v : Int) : zX := fun M => some (v, M)
def zrb (v : Int) : zX := fun M => if v = 0 ∨ v = 1 then some (v, M) else none
def zno : zX := fun _ => none
def znn (x : Int) (k : zX) : zX := fun M => if 0 ≤ x then k M else none
def zne (x : Int) (k : zX) : zX := fun M => if x = 0 then none else k M
def zlt (x : Int) (k : Int → zX) : zX := k x
def zgf (f : Nat) (x : Int) (k : Int → zX) : zX := fun M => k (M f x 0) M
def zpf (f : Nat) (x v : Int) (k : zX) : zX := fun M => k (zup M f x 0 v)
def zpb (f : Nat) (x v : Int) (k : zX) : zX := fun M => if v = 0 ∨ v = 1 then k (zup M f x 0 v) else none
def zib (i n : Int) (k : zX) : zX := fun M => if 0 ≤ i ∧ i < n then k M else none
def zal (f : Nat) (x i n : Int) (k : Int → zX) : zX := fun M => if 0 ≤ i ∧ i < n then k (M f x i) M else none
def zas (f : Nat) (x i n v : Int) (k : zX) : zX := fun M => if 0 ≤ i ∧ i < n then k (zup M f x i v) else none
def zcl (c : zX) (k : Int → zX) : zX := fun M => match c M with
  | none => none
  | some r => k r.1 r.2
def zlp {σ : Type} (B : (σ → zX) → σ → zX) : Nat → σ → zX
  | 0 => fun _ => zno
  | n + 1 => B (zlp B n)
def zBIG : Nat := 1048576
def zacl (x : Int) : Int := if x % 3 = 0 then 6 else 3
def zsort (x : Int) : Int := ([0, 0, 1, 1, 1, 1, 1, 1, 1, 1, 1, 1, 1, 1, 2, 2, 2, 2, 2, 2, 3, 3, 3, 3, 3, 4, 4, 5, 5, 5, 5, 5, 5, 5, 5, 6, 0, 0] : List Int).getD x.toNat 0
def zregs (x : Int) : Int := ([0, 0, 0, 0, 0, 0, 0, 0, 0, 0, 0, 0, 4, 4, 0, 0, 4, 8, 0, 0, 4, 0, 0, 0, 0, 8, 0, 0, 0, 0, 0, 0, 4, 0, 0, 0, 0, 0] : List Int).getD x.toNat 0
def zctv (c : Nat) (i : Int) : Int := if c = 6908 then ([8796504064, 15288238080, 12952272896, 12956467200, 1141112832, 20434911232, 14227341312, 4664328192, 1308884992, 16408379392, 5670961152, 3439591424, 12958302208, 1147142144, 20736901120, 20741095424, 20742930432, 20673724416, 1330380800, 20787232768, 5391777792, 5385748480, 1280049152, 1380712448, 1378877440, 5641338880, 5637406720, 21777088512, 21912354816, 21716533248, 21695299584, 21746417664, 4469030912, 3241197568, 19416481792, 20770979840, 25791037440, 15118106624] : List Int).getD i.toNat 0 else ([41192071424, 41075941376, 41125155013, 40870633472] : List Int).getD i.toNat 0
def zct (c : Nat) (i n : Int) (k : Int → zX) : zX := fun M => if 0 ≤ i ∧ i < n then k (zctv c i) M else none
def zhv (i : Int) : Int := ([82, 72, 1] : List Int).getD i.toNat 0
def zhd (i : Int) (k : Int → zX) : zX := fun M => if 0 ≤ i ∧ i < 3 then k (zhv i) M else none
def zstr : List (List Int) := [[104, 108, 116], [110, 111, 112], [108, 100, 97], [108, 100, 113], [97, 100, 97], [115, 98, 97], [109, 112, 97], [100, 118, 97], [97, 110, 97], [111, 114, 97], [101, 114, 97], [99, 109, 97], [108, 100, 120], [97, 100, 120], [115, 116, 97], [115, 116, 113], [115, 116, 120], [115, 112, 112], [97, 111, 115], [115, 119, 97], [101, 97, 120], [101, 97, 97], [97, 108, 115], [97, 114, 115], [97, 114, 108], [101, 112, 112], [101, 112, 97], [116, 114, 97], [116, 122, 101], [116, 110, 122], [116, 109, 105], [116, 112, 108], [100, 106, 120], [99, 97, 108, 108], [114, 101, 116], [115, 118, 99], [120, 97, 113], [110, 101, 103], [46, 119, 111, 114, 100], [46, 112, 116, 114], [46, 115, 112, 97, 99, 101], [46, 100, 101, 102], [46, 119, 111, 114, 100, 32], [44, 120]]
def zsn (s : Int) : Int := ((zstr.getD s.toNat []).length : Int)
def zsv (s i : Int) : Int := (zstr.getD s.toNat []).getD i.toNat 0
def zsc (s i : Int) (k : Int → zX) : zX := fun M => if 0 ≤ i ∧ i < zsn s then k (zsv s i) M else none
def zlen (c : Nat) : Int := if c = 6813 ∨ c = 6815 then 4608 else 0
