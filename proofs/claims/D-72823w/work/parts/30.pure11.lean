/-! what the component's writing methods do, as functions of its desk -/
set_option maxRecDepth 100000
