/-! ===== an implication that omega does not look into ===== -/
def Imp (a b : Prop) : Prop := a → b
