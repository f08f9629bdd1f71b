/-! LAYER 1r: an oracle for the recursion of said -/
def OrcS : Type := (Int → Int → Int → Nat → Nat → TT → CC → Option (Int × Nat × Nat × TT × CC)) × Nat
def oS [o : Inhabited OrcS] (x k m : Int) (sz sl : Nat) (td : TT) (c : CC) : Option (Int × Nat × Nat × TT × CC) := o.default.1 x k m sz sl td c
def oSN [o : Inhabited OrcS] : Nat := o.default.2
abbrev muSaid (d : Nat) : MI := (cX0_said, RX0, 5, some (.array .int), d, "said")
def oSOK [Inhabited OrcS] (G : GG) : Prop := ∀ (x k m : Int) (sz sl : Nat) (td : TT) (c : CC) (b : Int × Nat × Nat × TT × CC), oS x k m sz sl td c = some b → Ct G yX0_said (muSaid (3 * oSN + 30)) [(2, 43), (0, x), (0, k), (0, m)] (sz, sl, tt td, cv c) ((2, b.1), (b.2.1, b.2.2.1, tt b.2.2.2.1, cv b.2.2.2.2))
