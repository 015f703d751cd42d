/-! CORE: the abstract heap, the monad, and what it means that a piece of bytecode does what a monadic function says. -/
abbrev Sg : Type := (Nat → Nat) × (Nat → Nat → Value) × (Nat → Nat) × (Nat → Nat → Value) × Nat × Nat × Nat × (Nat → Value)
abbrev Ms (α : Type) : Type := Sg → Option ((α ⊕ (Nat × Nat)) × Sg)
def kd (σ : Sg) (a : Nat) : Nat := σ.1 a
def fd (σ : Sg) (f a : Nat) : Value := σ.2.1 f a
def ln (σ : Sg) (a : Nat) : Nat := σ.2.2.1 a
def ar (σ : Sg) (a i : Nat) : Value := σ.2.2.2.1 a i
def nx (σ : Sg) : Nat := σ.2.2.2.2.1
def su (σ : Sg) : Nat := σ.2.2.2.2.2.1
/-- cells below are not ours -/
def bs (σ : Sg) : Nat := σ.2.2.2.2.2.2.1
/-- what the statics hold that are read, and other things of the start -/
def st (σ : Sg) (j : Nat) : Value := σ.2.2.2.2.2.2.2 j
def setF (σ : Sg) (f a : Nat) (v : Value) : Sg := (σ.1, fun g b => if g = f ∧ b = a then v else σ.2.1 g b, σ.2.2)
def setA (σ : Sg) (a i : Nat) (v : Value) : Sg := (σ.1, σ.2.1, σ.2.2.1, fun b j => if b = a ∧ j = i then v else σ.2.2.2.1 b j, σ.2.2.2.2)
def newO (σ : Sg) (k n : Nat) (d : Nat → Value) : Sg := (fun b => if b = nx σ then k else σ.1 b, fun f b => if b = nx σ then d f else σ.2.1 f b, σ.2.2.1, σ.2.2.2.1, nx σ + 1, su σ + n, σ.2.2.2.2.2.2)
def newA (σ : Sg) (k n : Nat) (v : Value) : Sg := (fun b => if b = nx σ then k else σ.1 b, σ.2.1, fun b => if b = nx σ then n else σ.2.2.1 b, fun b i => if b = nx σ then v else σ.2.2.2.1 b i, nx σ + 1, su σ + n, σ.2.2.2.2.2.2)
def bmp (σ : Sg) (c n : Nat) : Sg := (fun b => if nx σ ≤ b ∧ b < nx σ + c then 0 else σ.1 b, σ.2.1, σ.2.2.1, σ.2.2.2.1, nx σ + c, su σ + n, σ.2.2.2.2.2.2)
-- the monad
def fl {α : Type} : Ms α := fun _ => none
def rt {α : Type} (v : α) : Ms α := fun σ => some (.inl v, σ)
/-- 'throw new E()': one cell of six slots -/
def th {α : Type} (e : Nat) : Ms α := fun σ => some (.inr (e, nx σ), bmp σ 1 6)
/-- 'throw q' -/
def thq {α : Type} (e q : Nat) : Ms α := fun σ => some (.inr (e, q), σ)
def bd {α β : Type} (m : Ms α) (k : α → Ms β) : Ms β := fun σ => match m σ with
  | none => none
  | some (.inl v, σ') => k v σ'
  | some (.inr x, σ') => some (.inr x, σ')
def bn {α β : Type} (m : Ms α) (k : α → Ms β) : Ms β := fun σ => match m σ with
  | some (.inl v, σ') => k v σ'
  | _ => none
def tr {α β : Type} (m : Ms α) (k : α → Ms β) (h : Nat → Nat → Ms β) : Ms β := fun σ => match m σ with
  | none => none
  | some (.inl v, σ') => k v σ'
  | some (.inr x, σ') => h x.1 x.2 σ'
def jn {γ β : Type} (k : γ → Ms β) (f : (γ → Ms β) → Ms β) : Ms β := f k
def lpn {γ β : Type} (F : (γ → Ms β) → γ → Ms β) : Nat → γ → Ms β
  | 0, _ => fl
  | n + 1, g => F (lpn F n) g
def lp {γ β : Type} (F : (γ → Ms β) → γ → Ms β) (g : γ) : Ms β := lpn F 1000 g
def ck {β : Type} (c : Prop) [Decidable c] (k : Ms β) : Ms β := fun σ => if c then k σ else none
def nn {β : Type} (r : Option Nat) (k : Nat → Ms β) : Ms β := match r with
  | some a => k a
  | none => fl
-- reading and writing
def isK (ks : List Nat) (n : Nat) : Bool := ks.contains n
def gV {β : Type} (ks : List Nat) (f a : Nat) (k : Value → Ms β) : Ms β := fun σ => if isK ks (kd σ a) = true then k (fd σ f a) σ else none
def gI {β : Type} (ks : List Nat) (f a : Nat) (k : Int32 → Ms β) : Ms β := gV ks f a fun v => match v with
  | .int x => k x
  | _ => fl
def gJ {β : Type} (ks : List Nat) (f a : Nat) (k : Int64 → Ms β) : Ms β := gV ks f a fun v => match v with
  | .long x => k x
  | _ => fl
def gR {β : Type} (ks : List Nat) (f a : Nat) (k : Nat → Ms β) : Ms β := gV ks f a fun v => match v with
  | .ref x => k x
  | _ => fl
def gO {β : Type} (ks : List Nat) (f a : Nat) (k : Option Nat → Ms β) : Ms β := gV ks f a fun v => match v with
  | .ref x => k (some x)
  | .null => k none
  | _ => fl
def pV {β : Type} (ks : List Nat) (f a : Nat) (v : Value) (k : Ms β) : Ms β := fun σ => if isK ks (kd σ a) = true ∧ bs σ ≤ a then k (setF σ f a v) else none
def aV {β : Type} (kk a : Nat) (i : Int32) (k : Value → Ms β) : Ms β := fun σ => if kd σ a = kk ∧ 0 ≤ i.toInt ∧ i.toInt < ln σ a then k (ar σ a i.toNatClampNeg) σ else none
def aI {β : Type} (kk a : Nat) (i : Int32) (k : Int32 → Ms β) : Ms β := aV kk a i fun v => match v with
  | .int x => k x
  | _ => fl
def aJ {β : Type} (kk a : Nat) (i : Int32) (k : Int64 → Ms β) : Ms β := aV kk a i fun v => match v with
  | .long x => k x
  | _ => fl
def aD {β : Type} (kk a : Nat) (i : Int32) (k : UInt64 → Ms β) : Ms β := aV kk a i fun v => match v with
  | .double x => k x
  | _ => fl
def aR {β : Type} (kk a : Nat) (i : Int32) (k : Nat → Ms β) : Ms β := aV kk a i fun v => match v with
  | .ref x => k x
  | _ => fl
def aO {β : Type} (kk a : Nat) (i : Int32) (k : Option Nat → Ms β) : Ms β := aV kk a i fun v => match v with
  | .ref x => k (some x)
  | .null => k none
  | _ => fl
def sV {β : Type} (kk a : Nat) (i : Int32) (v : Value) (k : Ms β) : Ms β := fun σ => if kd σ a = kk ∧ bs σ ≤ a ∧ 0 ≤ i.toInt ∧ i.toInt < ln σ a then k (setA σ a i.toNatClampNeg v) else none
def aL {β : Type} (kk a : Nat) (k : Int32 → Ms β) : Ms β := fun σ => if kd σ a = kk then k (Int32.ofNat (ln σ a)) σ else none
def nO {β : Type} (kk n : Nat) (d : Nat → Value) (k : Nat → Ms β) : Ms β := fun σ => k (nx σ) (newO σ kk n d)
def nA {β : Type} (kk : Nat) (n : Int32) (v : Value) (k : Nat → Ms β) : Ms β := fun σ => if 0 ≤ n.toInt ∧ n.toInt ≤ 1000000 then k (nx σ) (newA σ kk n.toNatClampNeg v) else none
/-- the kind of an object is one of these -/
def ko {β : Type} (ks : List Nat) (a : Nat) (k : Ms β) : Ms β := fun σ => if isK ks (kd σ a) = true then k σ else none
/-- by the kind of an object -/
def kq {β : Type} (kk a : Nat) (k1 k2 : Ms β) : Ms β := fun σ => if kd σ a = kk then k1 σ else k2 σ
/-- a static, read -/
def gs {β : Type} (j : Nat) (k : Value → Ms β) : Ms β := fun σ => k (st σ j) σ
def gsI {β : Type} (j : Nat) (k : Int32 → Ms β) : Ms β := gs j fun v => match v with
  | .int x => k x
  | _ => fl
def gsO {β : Type} (j : Nat) (k : Option Nat → Ms β) : Ms β := gs j fun v => match v with
  | .ref x => k (some x)
  | .null => k none
  | _ => fl
def gsR {β : Type} (j : Nat) (k : Nat → Ms β) : Ms β := gs j fun v => match v with
  | .ref x => k x
  | _ => fl
-- the fields: (declaring class, name, descriptor, final); numbers below 102 are ints, below 154 references, below 156 longs
def fNl : List (String × String × String × Bool) := [("QuorumAlmanac", "made", "I", false), ("QuorumAlmanac", "refused", "I", false), ("QuorumAlmanac", "isAgreed", "Z", false), ("QuorumAlmanac", "isStrong", "Z", false), ("QuorumAlmanac$Node", "number", "I", true), ("QuorumAlmanac$Node", "runs", "Z", false), ("QuorumAlmanac$Node", "role", "C", false), ("QuorumAlmanac$Node", "clock", "I", false), ("QuorumAlmanac$Node", "term", "I", false), ("QuorumAlmanac$Node", "vote", "I", false), ("QuorumAlmanac$Node", "heard", "I", false), ("QuorumAlmanac$Node", "boundAt", "I", false), ("QuorumAlmanac$Node", "synced", "I", false), ("QuorumAlmanac$Node", "committed", "I", false), ("QuorumAlmanac$Node", "agreed", "I", false), ("QuorumAlmanac$Node", "leader", "I", false), ("QuorumAlmanac$Node", "lastRound", "I", false), ("QuorumAlmanac$Node", "voices", "I", false), ("QuorumAlmanac$Members", "old", "I", true), ("QuorumAlmanac$Members", "now", "I", true), ("QuorumAlmanac$Snapshot", "index", "I", true), ("QuorumAlmanac$Snapshot", "term", "I", true), ("QuorumAlmanac$Message", "number", "I", true), ("QuorumAlmanac$Message", "from", "I", true), ("QuorumAlmanac$Message", "to", "I", true), ("QuorumAlmanac$Message", "term", "I", true), ("QuorumAlmanac$RoundMessage", "round", "I", true), ("QuorumAlmanac$Append", "ahead", "I", true), ("QuorumAlmanac$Append", "aheadTerm", "I", true), ("QuorumAlmanac$Append", "committed", "I", true), ("QuorumAlmanac$Wish", "lastIndex", "I", true), ("QuorumAlmanac$Wish", "lastTerm", "I", true), ("QuorumAlmanac$Entry", "term", "I", true), ("QuorumAlmanac$Entry", "kind", "C", true), ("QuorumAlmanac$Entry", "first", "I", true), ("QuorumAlmanac$Entry", "second", "I", true), ("QuorumAlmanac$Answer", "how", "C", true), ("QuorumAlmanac$Answer", "index", "I", true), ("java/lang/Throwable", "depth", "I", false), ("QuorumAlmanac$Refused", "hint", "I", true), ("QuorumAlmanac$Voice", "isYes", "Z", true), ("QuorumAlmanac$Read", "node", "I", true), ("QuorumAlmanac$Read", "term", "I", true), ("QuorumAlmanac$Read", "round", "I", true), ("QuorumAlmanac$Read", "key", "I", true), ("QuorumAlmanac$Read", "historyThen", "I", true), ("QuorumAlmanac$Read", "state", "C", false), ("QuorumAlmanac$Read", "value", "I", false), ("QuorumAlmanac$Place", "index", "I", true), ("QuorumAlmanac$Place", "term", "I", true), ("QuorumAlmanacModel", "thrown", "I", false), ("QuorumAlmanacModel", "numbered", "I", false), ("QuorumAlmanacModel", "sent", "I", false), ("QuorumAlmanacModel", "refused", "I", false), ("QuorumAlmanacModel$Node", "number", "I", true), ("QuorumAlmanacModel$Node", "clock", "I", false), ("QuorumAlmanacModel$Node", "term", "I", false), ("QuorumAlmanacModel$Node", "vote", "I", false), ("QuorumAlmanacModel$Node", "role", "C", false), ("QuorumAlmanacModel$Node", "runs", "Z", false), ("QuorumAlmanacModel$Node", "synced", "I", false), ("QuorumAlmanacModel$Node", "committed", "I", false), ("QuorumAlmanacModel$Node", "heard", "I", false), ("QuorumAlmanacModel$Node", "contact", "I", false), ("QuorumAlmanacModel$Node", "leader", "I", false), ("QuorumAlmanacModel$Node", "agreed", "I", false), ("QuorumAlmanacModel$Node", "lastRound", "I", false), ("QuorumAlmanacModel$Node", "voters", "I", false), ("QuorumAlmanacModel$Snapshot", "index", "I", true), ("QuorumAlmanacModel$Snapshot", "term", "I", true), ("QuorumAlmanacModel$Snapshot", "old", "I", true), ("QuorumAlmanacModel$Snapshot", "fresh", "I", true), ("QuorumAlmanacModel$Message", "number", "I", true), ("QuorumAlmanacModel$Message", "kind", "C", true), ("QuorumAlmanacModel$Message", "from", "I", true), ("QuorumAlmanacModel$Message", "to", "I", true), ("QuorumAlmanacModel$Message", "term", "I", false), ("QuorumAlmanacModel$Message", "round", "I", false), ("QuorumAlmanacModel$Message", "index", "I", false), ("QuorumAlmanacModel$Message", "indexTerm", "I", false), ("QuorumAlmanacModel$Message", "isYes", "Z", false), ("QuorumAlmanacModel$Message", "commit", "I", false), ("QuorumAlmanacModel$Entry", "term", "I", true), ("QuorumAlmanacModel$Entry", "kind", "C", true), ("QuorumAlmanacModel$Entry", "one", "I", true), ("QuorumAlmanacModel$Entry", "other", "I", true), ("QuorumAlmanacModel$Read", "node", "I", true), ("QuorumAlmanacModel$Read", "term", "I", true), ("QuorumAlmanacModel$Read", "key", "I", true), ("QuorumAlmanacModel$Read", "round", "I", true), ("QuorumAlmanacModel$Read", "state", "C", false), ("QuorumAlmanacModel$Read", "value", "I", false), ("java/util/AbstractList", "modCount", "I", false), ("java/util/ArrayList", "size", "I", false), ("java/util/ArrayList$Itr", "cursor", "I", false), ("java/util/ArrayList$Itr", "lastRet", "I", false), ("java/util/ArrayList$Itr", "expectedModCount", "I", false), ("java/lang/Integer", "value", "I", true), ("java/util/HashMap", "size", "I", false), ("java/util/HashMap", "modCount", "I", false), ("java/util/HashMap", "threshold", "I", false), ("java/util/HashMap$Node", "hash", "I", true), ("QuorumAlmanac", "lastOf", "LQuorumAlmanac$Measure;", true), ("QuorumAlmanac", "termOf", "LQuorumAlmanac$Measure;", true), ("QuorumAlmanac", "nodes", "[LQuorumAlmanac$Node;", true), ("QuorumAlmanac", "messages", "Ljava/util/ArrayList;", true), ("QuorumAlmanac", "reads", "Ljava/util/ArrayList;", true), ("QuorumAlmanac", "history", "Ljava/util/ArrayList;", true), ("QuorumAlmanac$Node", "snapshot", "LQuorumAlmanac$Snapshot;", false), ("QuorumAlmanac$Node", "log", "Ljava/util/ArrayList;", false), ("QuorumAlmanac$Node", "store", "LQuorumAlmanac$Store;", false), ("QuorumAlmanac$Node", "next", "[I", true), ("QuorumAlmanac$Node", "agreeing", "[I", true), ("QuorumAlmanac$Node", "answered", "[I", true), ("QuorumAlmanac$Node", "roundClocks", "Ljava/util/ArrayList;", true), ("QuorumAlmanac$Node", "this$0", "LQuorumAlmanac;", true), ("QuorumAlmanac$Store", "values", "[I", true), ("QuorumAlmanac$Store", "begins", "[Z", true), ("QuorumAlmanac$Store", "counts", "[I", true), ("QuorumAlmanac$Snapshot", "members", "LQuorumAlmanac$Members;", true), ("QuorumAlmanac$Snapshot", "store", "LQuorumAlmanac$Store;", true), ("QuorumAlmanac$Install", "snapshot", "LQuorumAlmanac$Snapshot;", true), ("QuorumAlmanac$Append", "entries", "Ljava/util/ArrayList;", true), ("java/lang/Throwable", "cause", "Ljava/lang/Throwable;", false), ("java/lang/Throwable", "stackTrace", "[Ljava/lang/StackTraceElement;", false), ("java/lang/Throwable", "suppressedExceptions", "Ljava/util/List;", false), ("java/lang/Throwable", "detailMessage", "Ljava/lang/String;", false), ("java/lang/Throwable", "backtrace", "Ljava/lang/Object;", false), ("QuorumAlmanacModel", "nodes", "[LQuorumAlmanacModel$Node;", true), ("QuorumAlmanacModel", "messages", "Ljava/util/ArrayList;", true), ("QuorumAlmanacModel", "reads", "Ljava/util/ArrayList;", true), ("QuorumAlmanacModel", "history", "Ljava/util/ArrayList;", true), ("QuorumAlmanacModel$Node", "snapshot", "LQuorumAlmanacModel$Snapshot;", false), ("QuorumAlmanacModel$Node", "log", "Ljava/util/ArrayList;", false), ("QuorumAlmanacModel$Node", "store", "LQuorumAlmanacModel$Store;", false), ("QuorumAlmanacModel$Node", "next", "[I", true), ("QuorumAlmanacModel$Node", "matched", "[I", true), ("QuorumAlmanacModel$Node", "answered", "[I", true), ("QuorumAlmanacModel$Node", "begun", "Ljava/util/ArrayList;", false), ("QuorumAlmanacModel$Node", "this$0", "LQuorumAlmanacModel;", true), ("QuorumAlmanacModel$Snapshot", "store", "LQuorumAlmanacModel$Store;", true), ("QuorumAlmanacModel$Store", "values", "[I", true), ("QuorumAlmanacModel$Store", "writes", "[I", true), ("QuorumAlmanacModel$Message", "entries", "Ljava/util/ArrayList;", false), ("QuorumAlmanacModel$Message", "snapshot", "LQuorumAlmanacModel$Snapshot;", false), ("java/util/ArrayList", "elementData", "[Ljava/lang/Object;", false), ("java/util/ArrayList$Itr", "this$0", "Ljava/util/ArrayList;", true), ("java/util/AbstractMap", "keySet", "Ljava/util/Set;", false), ("java/util/AbstractMap", "values", "Ljava/util/Collection;", false), ("java/util/HashMap", "table", "[Ljava/util/HashMap$Node;", false), ("java/util/HashMap", "entrySet", "Ljava/util/Set;", false), ("java/util/HashMap$Node", "key", "Ljava/lang/Object;", true), ("java/util/HashMap$Node", "value", "Ljava/lang/Object;", false), ("java/util/HashMap$Node", "next", "Ljava/util/HashMap$Node;", false), ("QuorumAlmanac", "delivered", "J", false), ("QuorumAlmanacModel", "delivered", "J", false), ("java/util/HashMap", "loadFactor", "F", true)]
def fN (f : Nat) : String × String × String × Bool := fNl.getD f ("", "", "", false)
def ftyl : List FieldType := [.int, .int, .boolean, .boolean, .int, .boolean, .char, .int, .int, .int, .int, .int, .int, .int, .int, .int, .int, .int, .int, .int, .int, .int, .int, .int, .int, .int, .int, .int, .int, .int, .int, .int, .int, .char, .int, .int, .char, .int, .int, .int, .boolean, .int, .int, .int, .int, .int, .char, .int, .int, .int, .int, .int, .int, .int, .int, .int, .int, .int, .char, .boolean, .int, .int, .int, .int, .int, .int, .int, .int, .int, .int, .int, .int, .int, .char, .int, .int, .int, .int, .int, .int, .boolean, .int, .int, .char, .int, .int, .int, .int, .int, .int, .char, .int, .int, .int, .int, .int, .int, .int, .int, .int, .int, .int, .object "QuorumAlmanac$Measure", .object "QuorumAlmanac$Measure", .array (.object "QuorumAlmanac$Node"), .object "java/util/ArrayList", .object "java/util/ArrayList", .object "java/util/ArrayList", .object "QuorumAlmanac$Snapshot", .object "java/util/ArrayList", .object "QuorumAlmanac$Store", .array (.int), .array (.int), .array (.int), .object "java/util/ArrayList", .object "QuorumAlmanac", .array (.int), .array (.boolean), .array (.int), .object "QuorumAlmanac$Members", .object "QuorumAlmanac$Store", .object "QuorumAlmanac$Snapshot", .object "java/util/ArrayList", .object "java/lang/Throwable", .array (.object "java/lang/StackTraceElement"), .object "java/util/List", .object "java/lang/String", .object "java/lang/Object", .array (.object "QuorumAlmanacModel$Node"), .object "java/util/ArrayList", .object "java/util/ArrayList", .object "java/util/ArrayList", .object "QuorumAlmanacModel$Snapshot", .object "java/util/ArrayList", .object "QuorumAlmanacModel$Store", .array (.int), .array (.int), .array (.int), .object "java/util/ArrayList", .object "QuorumAlmanacModel", .object "QuorumAlmanacModel$Store", .array (.int), .array (.int), .object "java/util/ArrayList", .object "QuorumAlmanacModel$Snapshot", .array (.object "java/lang/Object"), .object "java/util/ArrayList", .object "java/util/Set", .object "java/util/Collection", .array (.object "java/util/HashMap$Node"), .object "java/util/Set", .object "java/lang/Object", .object "java/lang/Object", .object "java/util/HashMap$Node", .long, .long, .float]
def fty (f : Nat) : FieldType := ftyl.getD f .int
def dfl (f : Nat) : Value := if f < 102 then .int 0 else if f < 154 then .null else if f < 156 then .long 0 else .float 0
-- the classes whose objects are kept: kind = place + 1
def slL : List (List Nat) := [[102, 103, 104, 105, 106, 107, 0, 154, 1, 2, 3], [4, 5, 6, 7, 8, 9, 10, 11, 108, 109, 12, 13, 110, 14, 15, 16, 17, 111, 112, 113, 114, 115], [18, 19], [116, 117, 118], [20, 21, 119, 120], [22, 23, 24, 25, 26, 121], [22, 23, 24, 25, 26, 27, 28, 122, 29], [22, 23, 24, 25, 30, 31], [32, 33, 34, 35], [22, 23, 24, 25, 26, 36, 37], [123, 124, 125, 126, 127, 38, 39], [22, 23, 24, 25, 40], [41, 42, 43, 44, 45, 46, 47], [48, 49], [50, 128, 129, 51, 52, 130, 131, 155, 53], [54, 55, 56, 57, 58, 59, 132, 133, 60, 61, 134, 62, 63, 64, 65, 66, 67, 135, 136, 137, 138, 139], [68, 69, 70, 71, 140], [141, 142], [72, 73, 74, 75, 76, 77, 78, 79, 80, 81, 143, 144], [82, 83, 84, 85], [86, 87, 88, 89, 90, 91], [92, 145, 93], [94, 95, 96, 146], [97], [147, 148, 149, 150, 98, 99, 100, 156], [101, 151, 152, 153]]
def fS (ci k : Nat) : Nat := (slL.getD ci []).getD k 9999
def cls : List vw_C := [("QuorumAlmanac", fun k => fN (fS 0 k), 11), ("QuorumAlmanac$Node", fun k => fN (fS 1 k), 22), ("QuorumAlmanac$Members", fun k => fN (fS 2 k), 2), ("QuorumAlmanac$Store", fun k => fN (fS 3 k), 3), ("QuorumAlmanac$Snapshot", fun k => fN (fS 4 k), 4), ("QuorumAlmanac$Install", fun k => fN (fS 5 k), 6), ("QuorumAlmanac$Append", fun k => fN (fS 6 k), 9), ("QuorumAlmanac$Wish", fun k => fN (fS 7 k), 6), ("QuorumAlmanac$Entry", fun k => fN (fS 8 k), 4), ("QuorumAlmanac$Answer", fun k => fN (fS 9 k), 7), ("QuorumAlmanac$Refused", fun k => fN (fS 10 k), 7), ("QuorumAlmanac$Voice", fun k => fN (fS 11 k), 5), ("QuorumAlmanac$Read", fun k => fN (fS 12 k), 7), ("QuorumAlmanac$Place", fun k => fN (fS 13 k), 2), ("QuorumAlmanacModel", fun k => fN (fS 14 k), 9), ("QuorumAlmanacModel$Node", fun k => fN (fS 15 k), 22), ("QuorumAlmanacModel$Snapshot", fun k => fN (fS 16 k), 5), ("QuorumAlmanacModel$Store", fun k => fN (fS 17 k), 2), ("QuorumAlmanacModel$Message", fun k => fN (fS 18 k), 12), ("QuorumAlmanacModel$Entry", fun k => fN (fS 19 k), 4), ("QuorumAlmanacModel$Read", fun k => fN (fS 20 k), 6), ("java/util/ArrayList", fun k => fN (fS 21 k), 3), ("java/util/ArrayList$Itr", fun k => fN (fS 22 k), 4), ("java/lang/Integer", fun k => fN (fS 23 k), 1), ("java/util/HashMap", fun k => fN (fS 24 k), 8), ("java/util/HashMap$Node", fun k => fN (fS 25 k), 4)]
def arrT : List FieldType := [.int, .boolean, .object "java/lang/Object", .object "QuorumAlmanac$Node", .object "QuorumAlmanacModel$Node", .long, .double, .object "java/util/HashMap$Node", .object "java/lang/Integer"]
def stN : List (String × String × String) := [("java/util/ArrayList", "DEFAULTCAPACITY_EMPTY_ELEMENTDATA", "[Ljava/lang/Object;"), ("java/lang/Integer$IntegerCache", "high", "I"), ("java/lang/Integer$IntegerCache", "cache", "[Ljava/lang/Integer;"), ("java/lang/Throwable", "UNASSIGNED_STACK", "[Ljava/lang/StackTraceElement;"), ("java/lang/Throwable", "SUPPRESSED_SENTINEL", "Ljava/util/List;")]
def miN : List String := ["[Ljava/lang/Object;"]
-- the machine around a method's body: Launch, the law's start, the script's cell, the classes' numbers
abbrev GT : Type := Launch × State × Nat × va_G
abbrev XT : Type := Program × Env × Room × State × MethodId × Array Value × List Frame × Method × Code
def gb (G : GT) : Nat := G.2.1.heap.size
def WX (G : GT) (X : XT) (H : Heap) (locs : List Loc) (cells slots : Nat) (Q : State → Prop) (g : JFrame) : Prop := W X.1 G.1 X.2.1 X.2.2.1 X.2.2.2.1 X.2.2.2.2.1 X.2.2.2.2.2.1 X.2.2.2.2.2.2.1 X.2.2.2.2.2.2.2.1 X.2.2.2.2.2.2.2.2 H locs cells slots Q g
def arrP (U : State) (cell : Cell) (ty : FieldType) : Prop := U.isArrayOf cell ty ∧ (∀ C, ty = .object C → C ≠ "java/lang/Integer" → va_RA U cell.cls (.object C))
/-- nobody holds the monitor -/
def Mon (H : Heap) (a : Nat) : Prop := ∀ cell : Cell, H[a]? = some cell → cell.monitor.owner = none ∧ cell.monitor.count = 0 ∧ cell.vm = .none
/-- what the machine keeps of an object beside its slots: below b: known, no statics; from b on: nothing -/
def vmK (b a : Nat) (v : VmData) : Prop := v ≠ .unknown ∧ v.isStatics = false ∧ (b ≤ a → v = .none)
theorem vmK.of {b a : Nat} {v : VmData} (h : v = .none) : vmK b a v := by subst h; exact ⟨(fun h => by cases h), rfl, fun _ => rfl⟩
def t_OC (b : Nat) (o : Nat) (cC : ClassId) (N : Nat) (iS : Nat → Nat) (H : Heap) (V : Nat → Value) : Prop := ∃ cell : Cell, H[o]? = some cell ∧ cell.cls = cC ∧ vmK b o cell.vm ∧ ∀ k, k < N → cell.slots[iS k]? = some (V k)
theorem t_OC.of {b o : Nat} {cC : ClassId} {N : Nat} {iS : Nat → Nat} {H : Heap} {V : Nat → Value} (h : t_OB o cC N iS H V) : t_OC b o cC N iS H V := by
  obtain ⟨cell, h1, h2, h3, h4⟩ := h
  exact ⟨cell, h1, h2, vmK.of h3, h4⟩
theorem t_OC.kept {b o : Nat} {cC : ClassId} {N : Nat} {iS : Nat → Nat} {H H1 : Heap} {V : Nat → Value} (h : t_OC b o cC N iS H V) (h1 : H1[o]? = H[o]?) : t_OC b o cC N iS H1 V := by
  obtain ⟨cell, q, r⟩ := h
  exact ⟨cell, by rw [h1]; exact q, r⟩
theorem t_OC.to {b o : Nat} {cC : ClassId} {N : Nat} {iS : Nat → Nat} {H : Heap} {V V' : Nat → Value} (h : t_OC b o cC N iS H V) (hv : ∀ k, k < N → V k = V' k) : t_OC b o cC N iS H V' := by
  obtain ⟨cell, q, r1, r2, r3⟩ := h
  exact ⟨cell, q, r1, r2, fun k hk => by rw [← hv k hk]; exact r3 k hk⟩
/-- the two objects that stand for what is asked of a node -/
def lmD : ClassFile.MethodDescriptor := ⟨[.object "QuorumAlmanac$Node"], some .int⟩
def lmN (i : Nat) : String := if i = 0 then "lambda$new$0" else "lambda$new$1"
def lmS (i : Nat) : Lambda.Shape := { iface := "QuorumAlmanac$Measure", name := "of", sam := lmD, captured := [], kind := 6, implClass := "QuorumAlmanac", implName := lmN i, implDesc := lmD, implItf := false, inst := lmD }
def lmPc (i : Nat) : Nat := if i = 0 then 5 else 14
def lmIx (i : Nat) : Nat := if i = 0 then 19 else 29
def LmP (G : GT) (σ : Sg) : Prop := ∀ i, i < 2 → ∃ (c : ClassId) (a : Nat), st σ (10 + i) = .ref a ∧ G.2.1.lambdaAt? ⟨"QuorumAlmanac", "<init>", "(I)V"⟩ (lmPc i) (lmIx i) (lmS i) = some (c, some a)
/-- the heap H is what σ says -/
def Wd (G : GT) (σ : Sg) (H : Heap) : Prop :=
  (H.size = nx σ ∧ bs σ = gb G ∧ gb G ≤ nx σ) ∧ (∀ a, a < gb G → H[a]? = G.2.1.heap[a]?) ∧
  (∀ a ci q, kd σ a = ci + 1 → cls[ci]? = some q → t_OC (gb G) a (G.2.2.2.1 ci) q.2.2 (G.2.2.2.2 ci) H (fun k => fd σ (fS ci k) a)) ∧
  (∀ a j ty, kd σ a = 30 + j → arrT[j]? = some ty → ∃ cell : Cell, H[a]? = some cell ∧ arrP G.2.1 cell ty ∧ vmK (gb G) a cell.vm ∧ cell.slots.size = ln σ a ∧ ln σ a ≤ 1000000 ∧ ∀ i, i < ln σ a → cell.slots[i]? = some (ar σ a i)) ∧
  (∀ a, kd σ a ≠ 0 → a < H.size ∧ (kd σ a = 11 → Mon H a)) ∧
  (∀ j x, stN[j]? = some x → va_Z x.1 x.2.1 x.2.2 (st σ j) (fun q => gb G ≤ q) G.2.1 G.2.1.heap) ∧ (∀ j C, miN[j]? = some C → ∃ mi, st σ (20 + j) = .ref mi ∧ va_Mi C mi G.2.1) ∧ LmP G σ
def ClOK (ci : Nat) (q : vw_C) : Prop := (∀ w ∈ u_ws q.1 q.2.1 q.2.2, w ∈ lw_all) ∧ (∀ a, a < q.2.2 → ∀ b, b < q.2.2 → a ≠ b → (q.2.1 a).2.1 ≠ (q.2.1 b).2.1) ∧ (∀ k, k < q.2.2 → parseFieldDescriptor (q.2.1 k).2.2.1 = some (fty (fS ci k)))
/-- what holds all through the run -/
def GOK (G : GT) : Prop :=
  (∀ w ∈ lw_tbl, w.before #[.ref G.2.2.1] G.2.1 = true) ∧ va_K G.2.2.2 cls [] G.2.1 ∧ G.1.stackTraces = false ∧ (∀ ci q, cls[ci]? = some q → ClOK ci q) ∧
  vx_Zq Bundle.tN "UNASSIGNED_STACK" Bundle.steD (fun q => gb G ≤ q) G.2.1 G.2.1.heap ∧ vx_Zq Bundle.tN "SUPPRESSED_SENTINEL" Bundle.listD (fun q => gb G ≤ q) G.2.1 G.2.1.heap ∧
  (Jvm.Cond.and given_1 narrow_1).before #[.ref G.2.2.1] G.2.1 = true
def oneD (y : MethodName) : Bool := !(y.cls == "QuorumAlmanac" && y.name == "<init>") || y.desc == "(I)V"
def plainD (y : MethodName) : Bool := plainFor y && oneD y
/-- what holds in the body of one method -/
def CxOk (G : GT) (X : XT) (own : String) (cc : ByteArray) (nL : Nat) (rT : Option FieldType) (FR LO : Nat) (mn : String) (tb : List ExceptionTableEntry) : Prop :=
  GOK G ∧ X.1.tables.exec = Jvm.exec ∧ X.2.2.2.2.2.2.2.2.code = cc ∧ X.2.2.2.2.2.2.2.2.maxLocals = nL ∧ X.2.2.2.1.vm.findClass own = some X.2.2.2.2.1.cls ∧ (∀ w ∈ lw_all, w.before X.2.2.2.2.2.1 X.2.2.2.1 = true) ∧
  X.2.2.2.2.2.2.2.1.sig.returnType = rT ∧ X.2.2.2.2.2.2.2.1.locks = false ∧ G.2.1.WarmedH X.2.2.2.1.vm ∧ FR ≤ X.2.2.1.frames ∧ LO ≤ X.2.2.1.locals ∧
  gb G ≤ X.2.2.2.1.heap.size ∧ (∀ a, a < gb G → X.2.2.2.1.heap[a]? = G.2.1.heap[a]?) ∧ (mn = "<init>" → X.2.2.2.2.2.2.2.1.name = mn ∧ ∃ y : MethodName, y.cls = own ∧ y.name = mn ∧ oneD y = true ∧ X.2.2.2.1.methodNamed? y = some X.2.2.2.2.1) ∧ X.2.2.2.2.2.2.2.2.exceptionTable.toList = tb
def exN : Nat → String
  | 0 => "java/lang/IndexOutOfBoundsException"
  | 1 => "java/lang/IllegalStateException"
  | 2 => "java/lang/IllegalArgumentException"
  | 3 => "java/util/NoSuchElementException"
  | 4 => "java/lang/UnsupportedOperationException"
  | 5 => "java/lang/ArithmeticException"
  | _ => "QuorumAlmanac$Refused"
def Qend {α : Type} (G : GT) (rv : α → Option Value) (o : α ⊕ (Nat × Nat)) (σ' : Sg) : Array Value → State → Outcome → State → Prop := fun _ _ oc t => ∃ v, o = .inl v ∧ oc = .returned (rv v) ∧ Wd G σ' t.heap
def Xend {α : Type} (G : GT) (o : α ⊕ (Nat × Nat)) (σ' : Sg) : String → Nat → State → State → Prop := fun E q _ t => ∃ k, o = .inr (k, q) ∧ exN k = E ∧ Wd G σ' t.heap
def QF {α : Type} (G : GT) (X : XT) (σ0 : Sg) (rv : α → Option Value) (o : α ⊕ (Nat × Nat)) (σ' : Sg) : State → Prop :=
  vx_MQ X.2.2.2.2.2.2.1 (Qend G rv o σ') (Xend G o σ') X.2.2.2.2.2.1 X.2.2.2.1 (nx σ' - nx σ0) (su σ' - su σ0) (fun q => gb G ≤ q)
def Mono {α : Type} (f : Ms α) : Prop := ∀ σ o σ', f σ = some (o, σ') → nx σ ≤ nx σ' ∧ su σ ≤ su σ'
/-- from pc, with these locals and this stack, the code does what mm says -/
def Ex {α : Type} (G : GT) (X : XT) (σ0 : Sg) (own : String) (cc : ByteArray) (nL : Nat) (rT : Option FieldType) (FR LO : Nat) (mn : String) (tb : List ExceptionTableEntry) (rv : α → Option Value) (pc : Nat) (lv : List (Nat × Value)) (st : List Value) (mm : Ms α) : Prop :=
  Mono mm ∧ (CxOk G X own cc nL rT FR LO mn tb → ∀ σ o σ', mm σ = some (o, σ') → X.2.2.1.cells = nx σ' - nx σ0 → X.2.2.1.slots = su σ' - su σ0 → nx σ0 ≤ nx σ → su σ0 ≤ su σ → X.2.2.2.1.heap.size ≤ nx σ → ∀ (H : Heap) (locs : List Loc) (ls : Array Slot), Wd G σ H → (∀ z ∈ locs, gb G ≤ z.base) → lv_has ls nL lv →
    WX G X H locs (nx σ - nx σ0) (su σ - su σ0) (QF G X σ0 rv o σ') (F0 X.2.2.2.2.1 pc ls st))
/-- a method's contract: it does what f says -/
def Cal {α : Type} (G : GT) (y : MethodName) (ws : List Cond) (FR LO : Nat) (avs : List Value) (rv : α → Option Value) (f : Ms α) : Prop :=
  (XT → Mono f) ∧ ∀ σ o σ', f σ = some (o, σ') → vx_Met G.1 y ws { frames := FR, cells := nx σ' - nx σ, slots := su σ' - su σ, locals := LO } (va_Pc avs (fun U => G.2.1.WarmedH U.vm ∧ Wd G σ U.heap)) (Qend G rv o σ') (Xend G o σ') (nx σ' - nx σ) (su σ' - su σ) (fun q => gb G ≤ q)
-- pure steps
theorem Ex_lift {α : Type} {G : GT} {X : XT} {σ0 : Sg} {own : String} {cc : ByteArray} {nL : Nat} {rT : Option FieldType} {FR LO : Nat} {mn : String} {tb : List ExceptionTableEntry} {rv : α → Option Value} {pc pc' : Nat} {lv lv' : List (Nat × Value)} {st st' : List Value} {mm : Ms α}
    (h : CxOk G X own cc nL rT FR LO mn tb → ∀ (H : Heap) (locs : List Loc) (cells slots : Nat) (Q : State → Prop) (ls : Array Slot), lv_has ls nL lv → (∀ ls', lv_has ls' nL lv' → WX G X H locs cells slots Q (F0 X.2.2.2.2.1 pc' ls' st')) → WX G X H locs cells slots Q (F0 X.2.2.2.2.1 pc ls st))
    (k : Ex G X σ0 own cc nL rT FR LO mn tb rv pc' lv' st' mm) : Ex G X σ0 own cc nL rT FR LO mn tb rv pc lv st mm :=
  ⟨k.1, fun hX σ o σ' e hc hs h1 h2 h3 H locs ls hW hl hv => h hX H locs _ _ _ ls hv fun ls' hv' => k.2 hX σ o σ' e hc hs h1 h2 h3 H locs ls' hW hl hv'⟩
theorem Mono_fl {α : Type} : Mono (fl : Ms α) := fun _ _ _ h => by cases h
theorem Ex_fl {α : Type} {G : GT} {X : XT} {σ0 : Sg} {own : String} {cc : ByteArray} {nL : Nat} {rT : Option FieldType} {FR LO : Nat} {mn : String} {tb : List ExceptionTableEntry} {rv : α → Option Value} {pc : Nat} {lv : List (Nat × Value)} {st : List Value} : Ex G X σ0 own cc nL rT FR LO mn tb rv pc lv st (fl : Ms α) := ⟨Mono_fl, fun _ _ _ _ h => by cases h⟩
theorem Ex_if {α : Type} {G : GT} {X : XT} {σ0 : Sg} {own : String} {cc : ByteArray} {nL : Nat} {rT : Option FieldType} {FR LO : Nat} {mn : String} {tb : List ExceptionTableEntry} {rv : α → Option Value} {pc p1 p2 : Nat} {lv : List (Nat × Value)} {st st1 st2 : List Value} {c : Prop} [Decidable c] {m1 m2 : Ms α}
    (h : CxOk G X own cc nL rT FR LO mn tb → ∀ (H : Heap) (locs : List Loc) (cells slots : Nat) (Q : State → Prop) (ls : Array Slot), (c → WX G X H locs cells slots Q (F0 X.2.2.2.2.1 p1 ls st1)) → (¬ c → WX G X H locs cells slots Q (F0 X.2.2.2.2.1 p2 ls st2)) → WX G X H locs cells slots Q (F0 X.2.2.2.2.1 pc ls st))
    (k1 : Ex G X σ0 own cc nL rT FR LO mn tb rv p1 lv st1 m1) (k2 : Ex G X σ0 own cc nL rT FR LO mn tb rv p2 lv st2 m2) : Ex G X σ0 own cc nL rT FR LO mn tb rv pc lv st (if c then m1 else m2) := by
  refine ⟨?_, ?_⟩
  · intro σ o σ' e
    by_cases hc : c
    · rw [if_pos hc] at e; exact k1.1 σ o σ' e
    · rw [if_neg hc] at e; exact k2.1 σ o σ' e
  · intro hX σ o σ' e hcc hs h1 h2 h3 H locs ls hW hl hv
    refine h hX H locs _ _ _ ls (fun hc => ?_) (fun hc => ?_)
    · rw [if_pos hc] at e; exact k1.2 hX σ o σ' e hcc hs h1 h2 h3 H locs ls hW hl hv
    · rw [if_neg hc] at e; exact k2.2 hX σ o σ' e hcc hs h1 h2 h3 H locs ls hW hl hv
theorem Ex_jn {α γ : Type} {G : GT} {X : XT} {σ0 : Sg} {own : String} {cc : ByteArray} {nL : Nat} {rT : Option FieldType} {FR LO : Nat} {mn : String} {tb : List ExceptionTableEntry} {rv : α → Option Value} {pc pj : Nat} {lv : List (Nat × Value)} {st : List Value} {k : γ → Ms α} {f : (γ → Ms α) → Ms α} (lj : γ → List (Nat × Value)) (sj : γ → List Value)
    (h1 : ∀ v, Ex G X σ0 own cc nL rT FR LO mn tb rv pj (lj v) (sj v) (k v)) (h2 : ∀ j : γ → Ms α, (∀ v, Ex G X σ0 own cc nL rT FR LO mn tb rv pj (lj v) (sj v) (j v)) → Ex G X σ0 own cc nL rT FR LO mn tb rv pc lv st (f j)) : Ex G X σ0 own cc nL rT FR LO mn tb rv pc lv st (jn k f) := h2 k h1
theorem Ex_lpn {α γ : Type} {G : GT} {X : XT} {σ0 : Sg} {own : String} {cc : ByteArray} {nL : Nat} {rT : Option FieldType} {FR LO : Nat} {mn : String} {tb : List ExceptionTableEntry} {rv : α → Option Value} {pj : Nat} {F : (γ → Ms α) → γ → Ms α} (lj : γ → List (Nat × Value)) (sj : γ → List Value)
    (h : ∀ j : γ → Ms α, (∀ v, Ex G X σ0 own cc nL rT FR LO mn tb rv pj (lj v) (sj v) (j v)) → ∀ v, Ex G X σ0 own cc nL rT FR LO mn tb rv pj (lj v) (sj v) (F j v)) : ∀ (n : Nat) (v : γ), Ex G X σ0 own cc nL rT FR LO mn tb rv pj (lj v) (sj v) (lpn F n v)
  | 0, _ => Ex_fl
  | n + 1, v => h (lpn F n) (Ex_lpn lj sj h n) v
theorem Ex_lp {α γ : Type} {G : GT} {X : XT} {σ0 : Sg} {own : String} {cc : ByteArray} {nL : Nat} {rT : Option FieldType} {FR LO : Nat} {mn : String} {tb : List ExceptionTableEntry} {rv : α → Option Value} {pj : Nat} {F : (γ → Ms α) → γ → Ms α} (lj : γ → List (Nat × Value)) (sj : γ → List Value)
    (h : ∀ j : γ → Ms α, (∀ v, Ex G X σ0 own cc nL rT FR LO mn tb rv pj (lj v) (sj v) (j v)) → ∀ v, Ex G X σ0 own cc nL rT FR LO mn tb rv pj (lj v) (sj v) (F j v)) (v : γ) {lv : List (Nat × Value)} {st : List Value} (e1 : lv = lj v) (e2 : st = sj v) : Ex G X σ0 own cc nL rT FR LO mn tb rv pj lv st (lp F v) := by
  subst e1; subst e2
  exact Ex_lpn lj sj h 1000 v
/-- other places for the same locals, or fewer -/
theorem Ex_lv {α : Type} {G : GT} {X : XT} {σ0 : Sg} {own : String} {cc : ByteArray} {nL : Nat} {rT : Option FieldType} {FR LO : Nat} {mn : String} {tb : List ExceptionTableEntry} {rv : α → Option Value} {pc : Nat} {lv lv' : List (Nat × Value)} {st : List Value} {mm : Ms α} (ks : List Nat) (e : lv_pick lv ks = lv') (k : Ex G X σ0 own cc nL rT FR LO mn tb rv pc lv' st mm) : Ex G X σ0 own cc nL rT FR LO mn tb rv pc lv st mm :=
  Ex_lift (fun _ H locs cells slots Q ls hv kk => kk ls (lv_sub hv ks e)) k
theorem Ex_ck {α : Type} {G : GT} {X : XT} {σ0 : Sg} {own : String} {cc : ByteArray} {nL : Nat} {rT : Option FieldType} {FR LO : Nat} {mn : String} {tb : List ExceptionTableEntry} {rv : α → Option Value} {pc : Nat} {lv : List (Nat × Value)} {st : List Value} {c : Prop} [Decidable c] {mm : Ms α} (k : c → Ex G X σ0 own cc nL rT FR LO mn tb rv pc lv st mm) : Ex G X σ0 own cc nL rT FR LO mn tb rv pc lv st (ck c mm) := by
  refine ⟨?_, ?_⟩
  · intro σ o σ' e
    unfold ck at e
    by_cases hc : c
    · rw [if_pos hc] at e; exact (k hc).1 σ o σ' e
    · rw [if_neg hc] at e; cases e
  · intro hX σ o σ' e
    unfold ck at e
    by_cases hc : c
    · rw [if_pos hc] at e; exact (k hc).2 hX σ o σ' e
    · rw [if_neg hc] at e; cases e
