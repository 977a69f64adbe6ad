/-- where a fixed world lies: addresses by number, array classes (0 int, 1 long, 2 byte, 3 boolean), the constants' places, fields that nobody asks -/
abbrev YD : Type := (Nat → Nat) × (Nat → ClassId) × (Nat → Nat) × (Nat → Value)
def g_K (D : va_G) (c : Nat → ClassId) (s : State) : Prop := va_K D gCl [(c 0, .int), (c 1, .long), (c 2, .byte), (c 3, .boolean)] s
